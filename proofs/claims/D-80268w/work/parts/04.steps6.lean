/-! STEP LEMMAS, printed by gen_steps.py -/
set_option maxRecDepth 100000
section ST6
variable {r : Nat} {h : am_H} {Q : am_O → am_H → Prop} {x x0 x1 x2 x3 x4 x5 x6 x7 x8 x9 x10 x11 : Int32} {y y0 y1 y2 y3 y4 y5 y6 y7 y8 y9 y10 y11 : Int64} {z z0 z1 z2 z3 z4 z5 z6 z7 z8 z9 z10 z11 : Option Nat} {w0 w1 w2 : UInt32} {a0 a1 a2 a3 a4 a5 a6 a7 a8 a9 a10 a11 : Nat} {l0 l1 l2 l3 l4 l5 l6 l7 l8 l9 l10 l11 l12 l13 l14 l15 l16 l17 l18 l19 : Option am_V}
/-! 249 java/lang/StringLatin1.hashCode([B)I -/
theorem eJ14_hashCode : Cl r 249 [vR z0] h Q ↔ Rn r 249 0 [some (vR z0)] [] h Q := Cl_in pg249 rfl
theorem sJ14_hashCode_0 : Rn r 249 0 [some (vR z)] [] h Q ↔ Rn r 249 1 [some (vR z)] [vR z] h Q := Rn_nx pg249 rfl rfl
theorem sJ14_hashCode_1 (hk : 40 ≤ hK h a0) (hk2 : hK h a0 ≤ 49) : Rn r 249 1 [l0] [vR (some a0)] h Q ↔ Rn r 249 2 [l0] [vI (nI (hL h a0))] h Q := Rn_nx pg249 rfl (if_pos ⟨hk, hk2⟩)
theorem sJ14_hashCode_2 : Rn r 249 2 [l0] [vI x0] h Q ↔ Rn r 249 (if x0 = 0 then 28 else if x0 = 1 then 32 else 42) [l0] [] h Q := Rn_nx pg249 rfl rfl
theorem sJ14_hashCode_28 : Rn r 249 28 [l0] [] h Q ↔ Rn r 249 29 [l0] [vI 0] h Q := Rn_nx pg249 rfl rfl
theorem sJ14_hashCode_29 : Rn r 249 29 [l0] [vI x0] h Q ↔ Rn r 249 51 [l0] [vI x0] h Q := Rn_nx pg249 rfl rfl
theorem sJ14_hashCode_32 : Rn r 249 32 [some (vR z)] [] h Q ↔ Rn r 249 33 [some (vR z)] [vR z] h Q := Rn_nx pg249 rfl rfl
theorem sJ14_hashCode_33 : Rn r 249 33 [l0] [vR z0] h Q ↔ Rn r 249 34 [l0] [vI 0, vR z0] h Q := Rn_nx pg249 rfl rfl
theorem sJ14_hashCode_34 (hk : 43 ≤ hK h a1) (hk2 : hK h a1 ≤ 45) (hx : ¬ (x0 < 0 ∨ hL h a1 ≤ x0.toNatClampNeg)) : Rn r 249 34 [l0] [vI x0, vR (some a1)] h Q ↔ Rn r 249 35 [l0] [vI (hI h a1 x0.toNatClampNeg)] h Q := Rn_nx pg249 rfl ((if_pos ⟨hk, hk2⟩).trans (if_neg hx))
theorem sJ14_hashCode_35 : Rn r 249 35 [l0] [vI x0] h Q ↔ Rn r 249 38 [l0] [vI 255, vI x0] h Q := Rn_nx pg249 rfl rfl
theorem sJ14_hashCode_38 : Rn r 249 38 [l0] [vI x0, vI x1] h Q ↔ Rn r 249 39 [l0] [vI (x1 &&& x0)] h Q := Rn_nx pg249 rfl rfl
theorem sJ14_hashCode_39 : Rn r 249 39 [l0] [vI x0] h Q ↔ Rn r 249 51 [l0] [vI x0] h Q := Rn_nx pg249 rfl rfl
theorem sJ14_hashCode_42 : Rn r 249 42 [some (vR z)] [] h Q ↔ Rn r 249 43 [some (vR z)] [vR z] h Q := Rn_nx pg249 rfl rfl
theorem sJ14_hashCode_43 : Rn r 249 43 [l0] [vR z0] h Q ↔ Rn r 249 44 [l0] [vI 0, vR z0] h Q := Rn_nx pg249 rfl rfl
theorem sJ14_hashCode_44 : Rn r 249 44 [some (vR z)] [vI x0, vR z1] h Q ↔ Rn r 249 45 [some (vR z)] [vR z, vI x0, vR z1] h Q := Rn_nx pg249 rfl rfl
theorem sJ14_hashCode_45 (hk : 40 ≤ hK h a0) (hk2 : hK h a0 ≤ 49) : Rn r 249 45 [l0] [vR (some a0), vI x1, vR z2] h Q ↔ Rn r 249 46 [l0] [vI (nI (hL h a0)), vI x1, vR z2] h Q := Rn_nx pg249 rfl (if_pos ⟨hk, hk2⟩)
theorem sJ14_hashCode_46 : Rn r 249 46 [l0] [vI x0, vI x1, vR z2] h Q ↔ Rn r 249 47 [l0] [vI 0, vI x0, vI x1, vR z2] h Q := Rn_nx pg249 rfl rfl
theorem sJ14_hashCode_47 : Rn r 249 47 [l0] [vI x0, vI x1, vI x2, vR z3] h Q ↔ Rn r 249 48 [l0] [vI 4, vI x0, vI x1, vI x2, vR z3] h Q := Rn_nx pg249 rfl rfl
theorem sJ14_hashCode_48 : Rn r 249 48 [l0] [vI x0, vI x1, vI x2, vI x3, vR z4] h Q ↔ Cl r 289 [vR z4, vI x3, vI x2, vI x1, vI x0] h (Kt r 249 51 [l0] [] Q) := Rn_call pg249 rfl rfl pg289 rfl rfl rfl
theorem sJ14_hashCode_51 : Rn r 249 51 [l0] [vI x0] h Q ↔ Q (Sum.inl (some (vI x0))) h := Rn_end pg249 rfl rfl
/-! 250 java/util/HashMap.comparableClassFor(Ljava/lang/Object;)Ljava/lang/Class; -/
theorem eJ7_comparableClassFor : Cl r 250 [vR z0] h Q ↔ Rn r 250 0 [some (vR z0), none, none, none, none, none, none, none, none] [] h Q := Cl_in pg250 rfl
theorem sJ7_comparableClassFor_0 : Rn r 250 0 [some (vR z), l1, l2, l3, l4, l5, l6, l7, l8] [] h Q ↔ Rn r 250 1 [some (vR z), l1, l2, l3, l4, l5, l6, l7, l8] [vR z] h Q := Rn_nx pg250 rfl rfl
theorem sJ7_comparableClassFor_1_n : Rn r 250 1 [l0, l1, l2, l3, l4, l5, l6, l7, l8] [vR none] h Q ↔ Rn r 250 4 [l0, l1, l2, l3, l4, l5, l6, l7, l8] [vI 0] h Q := Rn_nx pg250 rfl rfl
theorem sJ7_comparableClassFor_1 (hk : hK h a0 ∈ [10, 11]) : Rn r 250 1 [l0, l1, l2, l3, l4, l5, l6, l7, l8] [vR (some a0)] h Q ↔ Rn r 250 4 [l0, l1, l2, l3, l4, l5, l6, l7, l8] [vI 1] h Q := Rn_nx pg250 rfl (if_pos hk)
theorem sJ7_comparableClassFor_4 : Rn r 250 4 [l0, l1, l2, l3, l4, l5, l6, l7, l8] [vI x0] h Q ↔ if x0 = 0 then Rn r 250 113 [l0, l1, l2, l3, l4, l5, l6, l7, l8] [] h Q else Rn r 250 7 [l0, l1, l2, l3, l4, l5, l6, l7, l8] [] h Q := Rn_if pg250 rfl rfl rfl
theorem sJ7_comparableClassFor_7 : Rn r 250 7 [some (vR z), l1, l2, l3, l4, l5, l6, l7, l8] [] h Q ↔ Rn r 250 8 [some (vR z), l1, l2, l3, l4, l5, l6, l7, l8] [vR z] h Q := Rn_nx pg250 rfl rfl
theorem sJ7_comparableClassFor_8 (hk : hK h a0 = 10 ∨ hK h a0 = 11) : Rn r 250 8 [l0, l1, l2, l3, l4, l5, l6, l7, l8] [vR (some a0)] h Q ↔ Rn r 250 11 [l0, l1, l2, l3, l4, l5, l6, l7, l8] [vR (some (hE h 40))] h Q := by rcases hk with hk | hk <;> exact Rn_nx pg250 rfl (by simp only [am_exec, am_inv, am_nat, hk]; rfl)
theorem sJ7_comparableClassFor_8_o (hk : hK h a0 = 46 ∨ hK h a0 = 47) : Rn r 250 8 [l0, l1, l2, l3, l4, l5, l6, l7, l8] [vR (some a0)] h Q ↔ Rn r 250 11 [l0, l1, l2, l3, l4, l5, l6, l7, l8] [vR (some (hE h 41))] h Q := by rcases hk with hk | hk <;> exact Rn_nx pg250 rfl (by simp only [am_exec, am_inv, am_nat, hk]; rfl)
theorem sJ7_comparableClassFor_11 : Rn r 250 11 [l0, l1, l2, l3, l4, l5, l6, l7, l8] [vR z0] h Q ↔ Rn r 250 12 [l0, l1, l2, l3, l4, l5, l6, l7, l8] [vR z0, vR z0] h Q := Rn_nx pg250 rfl rfl
theorem sJ7_comparableClassFor_12 : Rn r 250 12 [l0, l1, l2, l3, l4, l5, l6, l7, l8] [vR z0, vR z1] h Q ↔ Rn r 250 13 [l0, some (vR z0), l2, l3, l4, l5, l6, l7, l8] [vR z1] h Q := Rn_nx pg250 rfl rfl
theorem sJ7_comparableClassFor_13 : Rn r 250 13 [l0, l1, l2, l3, l4, l5, l6, l7, l8] [vR z0] h Q ↔ Rn r 250 15 [l0, l1, l2, l3, l4, l5, l6, l7, l8] [vR (some (hE h 40)), vR z0] h Q := Rn_nx pg250 rfl rfl
theorem sJ7_comparableClassFor_15 : Rn r 250 15 [l0, l1, l2, l3, l4, l5, l6, l7, l8] [vR z0, vR z1] h Q ↔ if z1 ≠ z0 then Rn r 250 20 [l0, l1, l2, l3, l4, l5, l6, l7, l8] [] h Q else Rn r 250 18 [l0, l1, l2, l3, l4, l5, l6, l7, l8] [] h Q := Rn_if pg250 rfl rfl rfl
theorem sJ7_comparableClassFor_18 : Rn r 250 18 [l0, some (vR z), l2, l3, l4, l5, l6, l7, l8] [] h Q ↔ Rn r 250 19 [l0, some (vR z), l2, l3, l4, l5, l6, l7, l8] [vR z] h Q := Rn_nx pg250 rfl rfl
theorem sJ7_comparableClassFor_19 : Rn r 250 19 [l0, l1, l2, l3, l4, l5, l6, l7, l8] [vR z0] h Q ↔ Q (Sum.inl (some (vR z0))) h := Rn_end pg250 rfl rfl
theorem sJ7_comparableClassFor_20 : Rn r 250 20 [l0, some (vR z), l2, l3, l4, l5, l6, l7, l8] [] h Q ↔ Rn r 250 21 [l0, some (vR z), l2, l3, l4, l5, l6, l7, l8] [vR z] h Q := Rn_nx pg250 rfl rfl
theorem sJ7_comparableClassFor_113 : Rn r 250 113 [l0, l1, l2, l3, l4, l5, l6, l7, l8] [] h Q ↔ Rn r 250 114 [l0, l1, l2, l3, l4, l5, l6, l7, l8] [vR none] h Q := Rn_nx pg250 rfl rfl
theorem sJ7_comparableClassFor_114 : Rn r 250 114 [l0, l1, l2, l3, l4, l5, l6, l7, l8] [vR z0] h Q ↔ Q (Sum.inl (some (vR z0))) h := Rn_end pg250 rfl rfl
/-! 251 java/util/HashMap.compareComparables(Ljava/lang/Class;Ljava/lang/Object;Ljava/lang/Object;)I -/
theorem eJ7_compareComparables : Cl r 251 [vR z0, vR z1, vR z2] h Q ↔ Rn r 251 0 [some (vR z0), some (vR z1), some (vR z2)] [] h Q := Cl_in pg251 rfl
theorem sJ7_compareComparables_0 : Rn r 251 0 [l0, l1, some (vR z)] [] h Q ↔ Rn r 251 1 [l0, l1, some (vR z)] [vR z] h Q := Rn_nx pg251 rfl rfl
theorem sJ7_compareComparables_1 : Rn r 251 1 [l0, l1, l2] [vR z0] h Q ↔ if z0 = none then Rn r 251 12 [l0, l1, l2] [] h Q else Rn r 251 4 [l0, l1, l2] [] h Q := Rn_if pg251 rfl rfl rfl
theorem sJ7_compareComparables_4 : Rn r 251 4 [l0, l1, some (vR z)] [] h Q ↔ Rn r 251 5 [l0, l1, some (vR z)] [vR z] h Q := Rn_nx pg251 rfl rfl
theorem sJ7_compareComparables_5 (hk : hK h a0 = 10 ∨ hK h a0 = 11) : Rn r 251 5 [l0, l1, l2] [vR (some a0)] h Q ↔ Rn r 251 8 [l0, l1, l2] [vR (some (hE h 40))] h Q := by rcases hk with hk | hk <;> exact Rn_nx pg251 rfl (by simp only [am_exec, am_inv, am_nat, hk]; rfl)
theorem sJ7_compareComparables_5_o (hk : hK h a0 = 46 ∨ hK h a0 = 47) : Rn r 251 5 [l0, l1, l2] [vR (some a0)] h Q ↔ Rn r 251 8 [l0, l1, l2] [vR (some (hE h 41))] h Q := by rcases hk with hk | hk <;> exact Rn_nx pg251 rfl (by simp only [am_exec, am_inv, am_nat, hk]; rfl)
theorem sJ7_compareComparables_8 : Rn r 251 8 [some (vR z), l1, l2] [vR z0] h Q ↔ Rn r 251 9 [some (vR z), l1, l2] [vR z, vR z0] h Q := Rn_nx pg251 rfl rfl
theorem sJ7_compareComparables_9 : Rn r 251 9 [l0, l1, l2] [vR z0, vR z1] h Q ↔ if z1 = z0 then Rn r 251 16 [l0, l1, l2] [] h Q else Rn r 251 12 [l0, l1, l2] [] h Q := Rn_if pg251 rfl rfl rfl
theorem sJ7_compareComparables_12 : Rn r 251 12 [l0, l1, l2] [] h Q ↔ Rn r 251 13 [l0, l1, l2] [vI 0] h Q := Rn_nx pg251 rfl rfl
theorem sJ7_compareComparables_13 : Rn r 251 13 [l0, l1, l2] [vI x0] h Q ↔ Rn r 251 26 [l0, l1, l2] [vI x0] h Q := Rn_nx pg251 rfl rfl
theorem sJ7_compareComparables_16 : Rn r 251 16 [l0, some (vR z), l2] [] h Q ↔ Rn r 251 17 [l0, some (vR z), l2] [vR z] h Q := Rn_nx pg251 rfl rfl
theorem sJ7_compareComparables_17_n : Rn r 251 17 [l0, l1, l2] [vR none] h Q ↔ Rn r 251 20 [l0, l1, l2] [vR none] h Q := Rn_nx pg251 rfl rfl
theorem sJ7_compareComparables_17 (hk : hK h a0 ∈ [10, 11]) : Rn r 251 17 [l0, l1, l2] [vR (some a0)] h Q ↔ Rn r 251 20 [l0, l1, l2] [vR (some a0)] h Q := Rn_nx pg251 rfl (if_pos hk)
theorem sJ7_compareComparables_20 : Rn r 251 20 [l0, l1, some (vR z)] [vR z0] h Q ↔ Rn r 251 21 [l0, l1, some (vR z)] [vR z, vR z0] h Q := Rn_nx pg251 rfl rfl
theorem sJ7_compareComparables_21 (hk : 10 ≤ hK h a1) (hk2 : hK h a1 ≤ 11) : Rn r 251 21 [l0, l1, l2] [vR z0, vR (some a1)] h Q ↔ Cl r 290 [vR (some a1), vR z0] h (Kt r 251 26 [l0, l1, l2] [] Q) := Rn_call pg251 rfl (by rcases am_rng2 hk hk2 with q | q <;> simp only [am_exec, am_inv, am_pop, am_lk, q] <;> rfl) pg290 rfl rfl rfl
theorem sJ7_compareComparables_26 : Rn r 251 26 [l0, l1, l2] [vI x0] h Q ↔ Q (Sum.inl (some (vI x0))) h := Rn_end pg251 rfl rfl
/-! 252 ThrowRules$Catch.first()LThrowRules$Kind; -/
theorem eX22_first : Cl r 252 [vR z0] h Q ↔ Rn r 252 0 [some (vR z0), none] [] h Q := Cl_in pg252 rfl
theorem sX22_first_0 : Rn r 252 0 [l0, l1] [] h Q ↔ Rn r 252 1 [l0, l1] [vI 0] h Q := Rn_nx pg252 rfl rfl
theorem sX22_first_1 : Rn r 252 1 [l0, l1] [vI x0] h Q ↔ Rn r 252 2 [l0, some (vI x0)] [] h Q := Rn_nx pg252 rfl rfl
theorem sX22_first_2 : Rn r 252 2 [l0, some (vI x)] [] h Q ↔ Rn r 252 3 [l0, some (vI x)] [vI x] h Q := Rn_nx pg252 rfl rfl
theorem sX22_first_3 : Rn r 252 3 [some (vR z), l1] [vI x0] h Q ↔ Rn r 252 4 [some (vR z), l1] [vR z, vI x0] h Q := Rn_nx pg252 rfl rfl
theorem sX22_first_4 (hk : hK h a0 = 22) : Rn r 252 4 [l0, l1] [vR (some a0), vI x1] h Q ↔ Rn r 252 7 [l0, l1] [vR (hR h a0 1), vI x1] h Q := Rn_nx pg252 rfl (if_pos ⟨(hk ▸ Nat.le_refl _), (hk ▸ Nat.le_refl _)⟩)
theorem sX22_first_7 (hk : hK h a0 = 4) : Rn r 252 7 [l0, l1] [vR (some a0), vI x1] h Q ↔ Cl r 34 [vR (some a0)] h (Kt r 252 10 [l0, l1] [vI x1] Q) := Rn_call pg252 rfl (by simp only [am_exec, am_inv, am_pop, am_lk, hk]; rfl) pg34 rfl rfl rfl
theorem sX22_first_10 : Rn r 252 10 [l0, l1] [vI x0, vI x1] h Q ↔ if x0 ≤ x1 then Rn r 252 51 [l0, l1] [] h Q else Rn r 252 13 [l0, l1] [] h Q := Rn_if pg252 rfl rfl rfl
theorem sX22_first_13 : Rn r 252 13 [some (vR z), l1] [] h Q ↔ Rn r 252 14 [some (vR z), l1] [vR z] h Q := Rn_nx pg252 rfl rfl
theorem sX22_first_14 (hk : hK h a0 = 22) : Rn r 252 14 [l0, l1] [vR (some a0)] h Q ↔ Rn r 252 17 [l0, l1] [vR (hR h a0 1)] h Q := Rn_nx pg252 rfl (if_pos ⟨(hk ▸ Nat.le_refl _), (hk ▸ Nat.le_refl _)⟩)
theorem sX22_first_17 : Rn r 252 17 [l0, some (vI x)] [vR z0] h Q ↔ Rn r 252 18 [l0, some (vI x)] [vI x, vR z0] h Q := Rn_nx pg252 rfl rfl
theorem sX22_first_18 (hk : hK h a1 = 4) : Rn r 252 18 [l0, l1] [vI x0, vR (some a1)] h Q ↔ Cl r 43 [vR (some a1), vI x0] h (Kt r 252 21 [l0, l1] [] Q) := Rn_call pg252 rfl (by simp only [am_exec, am_inv, am_pop, am_lk, hk]; rfl) pg43 rfl rfl rfl
theorem sX22_first_21_n : Rn r 252 21 [l0, l1] [vR none] h Q ↔ Rn r 252 24 [l0, l1] [vR none] h Q := Rn_nx pg252 rfl rfl
theorem sX22_first_21 (hk : hK h a0 ∈ [19]) : Rn r 252 21 [l0, l1] [vR (some a0)] h Q ↔ Rn r 252 24 [l0, l1] [vR (some a0)] h Q := Rn_nx pg252 rfl (if_pos hk)
theorem sX22_first_24 (hk : hK h a0 = 19) : Rn r 252 24 [l0, l1] [vR (some a0)] h Q ↔ Rn r 252 27 [l0, l1] [vR (hR h a0 0)] h Q := Rn_nx pg252 rfl (if_pos ⟨(hk ▸ Nat.le_refl _), (hk ▸ Nat.le_refl _)⟩)
theorem sX22_first_27 : Rn r 252 27 [l0, l1] [vR z0] h Q ↔ if z0 = none then Rn r 252 45 [l0, l1] [] h Q else Rn r 252 30 [l0, l1] [] h Q := Rn_if pg252 rfl rfl rfl
theorem sX22_first_30 : Rn r 252 30 [some (vR z), l1] [] h Q ↔ Rn r 252 31 [some (vR z), l1] [vR z] h Q := Rn_nx pg252 rfl rfl
theorem sX22_first_31 (hk : hK h a0 = 22) : Rn r 252 31 [l0, l1] [vR (some a0)] h Q ↔ Rn r 252 34 [l0, l1] [vR (hR h a0 1)] h Q := Rn_nx pg252 rfl (if_pos ⟨(hk ▸ Nat.le_refl _), (hk ▸ Nat.le_refl _)⟩)
theorem sX22_first_34 : Rn r 252 34 [l0, some (vI x)] [vR z0] h Q ↔ Rn r 252 35 [l0, some (vI x)] [vI x, vR z0] h Q := Rn_nx pg252 rfl rfl
theorem sX22_first_35 (hk : hK h a1 = 4) : Rn r 252 35 [l0, l1] [vI x0, vR (some a1)] h Q ↔ Cl r 43 [vR (some a1), vI x0] h (Kt r 252 38 [l0, l1] [] Q) := Rn_call pg252 rfl (by simp only [am_exec, am_inv, am_pop, am_lk, hk]; rfl) pg43 rfl rfl rfl
theorem sX22_first_38_n : Rn r 252 38 [l0, l1] [vR none] h Q ↔ Rn r 252 41 [l0, l1] [vR none] h Q := Rn_nx pg252 rfl rfl
theorem sX22_first_38 (hk : hK h a0 ∈ [19]) : Rn r 252 38 [l0, l1] [vR (some a0)] h Q ↔ Rn r 252 41 [l0, l1] [vR (some a0)] h Q := Rn_nx pg252 rfl (if_pos hk)
theorem sX22_first_41 (hk : hK h a0 = 19) : Rn r 252 41 [l0, l1] [vR (some a0)] h Q ↔ Rn r 252 44 [l0, l1] [vR (hR h a0 0)] h Q := Rn_nx pg252 rfl (if_pos ⟨(hk ▸ Nat.le_refl _), (hk ▸ Nat.le_refl _)⟩)
theorem sX22_first_44 : Rn r 252 44 [l0, l1] [vR z0] h Q ↔ Q (Sum.inl (some (vR z0))) h := Rn_end pg252 rfl rfl
theorem sX22_first_45 : Rn r 252 45 [l0, some (vI x)] [] h Q ↔ Rn r 252 48 [l0, some (vI (x + 1))] [] h Q := Rn_nx pg252 rfl rfl
theorem sX22_first_48 : Rn r 252 48 [l0, l1] [] h Q ↔ Rn r 252 2 [l0, l1] [] h Q := Rn_nx pg252 rfl rfl
theorem sX22_first_51 : Rn r 252 51 [l0, l1] [] h Q ↔ Rn r 252 52 [l0, l1] [vR none] h Q := Rn_nx pg252 rfl rfl
theorem sX22_first_52 : Rn r 252 52 [l0, l1] [vR z0] h Q ↔ Q (Sum.inl (some (vR z0))) h := Rn_end pg252 rfl rfl
/-! 253 ThrowRules$Walk.draw(I)I -/
theorem eX5_draw : Cl r 253 [vR z0, vI x1] h Q ↔ Rn r 253 0 [some (vR z0), some (vI x1)] [] h Q := Cl_in pg253 rfl
theorem sX5_draw_0 : Rn r 253 0 [some (vR z), l1] [] h Q ↔ Rn r 253 1 [some (vR z), l1] [vR z] h Q := Rn_nx pg253 rfl rfl
theorem sX5_draw_1 : Rn r 253 1 [some (vR z), l1] [vR z0] h Q ↔ Rn r 253 2 [some (vR z), l1] [vR z, vR z0] h Q := Rn_nx pg253 rfl rfl
theorem sX5_draw_2 (hk : hK h a0 = 14) : Rn r 253 2 [l0, l1] [vR (some a0), vR z1] h Q ↔ Rn r 253 5 [l0, l1] [vL (hJ h a0 3), vR z1] h Q := Rn_nx pg253 rfl (if_pos ⟨(hk ▸ Nat.le_refl _), (hk ▸ Nat.le_refl _)⟩)
theorem sX5_draw_5 : Rn r 253 5 [l0, l1] [vL y0, vR z1] h Q ↔ Rn r 253 8 [l0, l1] [vL 6364136223846793005, vL y0, vR z1] h Q := Rn_nx pg253 rfl rfl
theorem sX5_draw_8 : Rn r 253 8 [l0, l1] [vL y0, vL y1, vR z2] h Q ↔ Rn r 253 9 [l0, l1] [vL (y1 * y0), vR z2] h Q := Rn_nx pg253 rfl rfl
theorem sX5_draw_9 : Rn r 253 9 [l0, l1] [vL y0, vR z1] h Q ↔ Rn r 253 12 [l0, l1] [vL 1442695040888963407, vL y0, vR z1] h Q := Rn_nx pg253 rfl rfl
theorem sX5_draw_12 : Rn r 253 12 [l0, l1] [vL y0, vL y1, vR z2] h Q ↔ Rn r 253 13 [l0, l1] [vL (y1 + y0), vR z2] h Q := Rn_nx pg253 rfl rfl
theorem sX5_draw_13 (hk : hK h a1 = 14) : Rn r 253 13 [l0, l1] [vL y0, vR (some a1)] h Q ↔ Rn r 253 16 [l0, l1] [] (putJ h a1 3 y0) Q := Rn_nx pg253 rfl ((if_pos ⟨(hk ▸ Nat.le_refl _), (hk ▸ Nat.le_refl _)⟩).trans rfl)
theorem sX5_draw_16 : Rn r 253 16 [some (vR z), l1] [] h Q ↔ Rn r 253 17 [some (vR z), l1] [vR z] h Q := Rn_nx pg253 rfl rfl
theorem sX5_draw_17 (hk : hK h a0 = 14) : Rn r 253 17 [l0, l1] [vR (some a0)] h Q ↔ Rn r 253 20 [l0, l1] [vL (hJ h a0 3)] h Q := Rn_nx pg253 rfl (if_pos ⟨(hk ▸ Nat.le_refl _), (hk ▸ Nat.le_refl _)⟩)
theorem sX5_draw_20 : Rn r 253 20 [l0, l1] [vL y0] h Q ↔ Rn r 253 22 [l0, l1] [vI 33, vL y0] h Q := Rn_nx pg253 rfl rfl
theorem sX5_draw_22 : Rn r 253 22 [l0, l1] [vI x0, vL y1] h Q ↔ Rn r 253 23 [l0, l1] [vL (y1.toUInt64 >>> (x0.toInt64.toUInt64 &&& Int64.toUInt64 63)).toInt64] h Q := Rn_nx pg253 rfl rfl
theorem sX5_draw_23 : Rn r 253 23 [l0, some (vI x)] [vL y0] h Q ↔ Rn r 253 24 [l0, some (vI x)] [vI x, vL y0] h Q := Rn_nx pg253 rfl rfl
theorem sX5_draw_24 : Rn r 253 24 [l0, l1] [vI x0, vL y1] h Q ↔ Rn r 253 25 [l0, l1] [vL x0.toInt64, vL y1] h Q := Rn_nx pg253 rfl rfl
theorem sX5_draw_25 (hz : ¬ y0 = 0) : Rn r 253 25 [l0, l1] [vL y0, vL y1] h Q ↔ Rn r 253 26 [l0, l1] [vL (y1 - y1 / y0 * y0)] h Q := Rn_nx pg253 rfl (if_neg hz)
theorem sX5_draw_26 : Rn r 253 26 [l0, l1] [vL y0] h Q ↔ Rn r 253 27 [l0, l1] [vI y0.toInt32] h Q := Rn_nx pg253 rfl rfl
theorem sX5_draw_27 : Rn r 253 27 [l0, l1] [vI x0] h Q ↔ Q (Sum.inl (some (vI x0))) h := Rn_end pg253 rfl rfl
/-! 254 ThrowRules$Walk.call(LThrowRules$Method;)V -/
theorem eX5_call : Cl r 254 [vR z0, vR z1] h Q ↔ Rn r 254 0 [some (vR z0), some (vR z1), none] [] h Q := Cl_in pg254 rfl
theorem sX5_call_0 : Rn r 254 0 [some (vR z), l1, l2] [] h Q ↔ Rn r 254 1 [some (vR z), l1, l2] [vR z] h Q := Rn_nx pg254 rfl rfl
theorem sX5_call_1 : Rn r 254 1 [l0, some (vR z), l2] [vR z0] h Q ↔ Rn r 254 2 [l0, some (vR z), l2] [vR z, vR z0] h Q := Rn_nx pg254 rfl rfl
theorem sX5_call_2 (hk : hK h a1 = 14) : Rn r 254 2 [l0, l1, l2] [vR z0, vR (some a1)] h Q ↔ Cl r 291 [vR (some a1), vR z0] h (Kt r 254 5 [l0, l1, l2] [] Q) := Rn_call pg254 rfl (by simp only [am_exec, am_inv, am_pop, am_lk, hk]; rfl) pg291 rfl rfl rfl
theorem sX5_call_5 : Rn r 254 5 [l0, l1, l2] [vR z0] h Q ↔ Rn r 254 6 [l0, l1, some (vR z0)] [] h Q := Rn_nx pg254 rfl rfl
theorem sX5_call_6 : Rn r 254 6 [l0, l1, some (vR z)] [] h Q ↔ Rn r 254 7 [l0, l1, some (vR z)] [vR z] h Q := Rn_nx pg254 rfl rfl
theorem sX5_call_7 : Rn r 254 7 [l0, l1, l2] [vR z0] h Q ↔ if z0 = none then Rn r 254 20 [l0, l1, l2] [] h Q else Rn r 254 10 [l0, l1, l2] [] h Q := Rn_if pg254 rfl rfl rfl
theorem sX5_call_10 : Rn r 254 10 [some (vR z), l1, l2] [] h Q ↔ Rn r 254 11 [some (vR z), l1, l2] [vR z] h Q := Rn_nx pg254 rfl rfl
theorem sX5_call_11 : Rn r 254 11 [l0, l1, l2] [vR z0] h Q ↔ Rn r 254 12 [l0, l1, l2] [vI 1, vR z0] h Q := Rn_nx pg254 rfl rfl
theorem sX5_call_12 (hk : hK h a1 = 14) : Rn r 254 12 [l0, l1, l2] [vI x0, vR (some a1)] h Q ↔ Rn r 254 15 [l0, l1, l2] [] (putI h a1 0 x0) Q := Rn_nx pg254 rfl ((if_pos ⟨(hk ▸ Nat.le_refl _), (hk ▸ Nat.le_refl _)⟩).trans rfl)
theorem sX5_call_15 : Rn r 254 15 [some (vR z), l1, l2] [] h Q ↔ Rn r 254 16 [some (vR z), l1, l2] [vR z] h Q := Rn_nx pg254 rfl rfl
theorem sX5_call_16 : Rn r 254 16 [l0, l1, some (vR z)] [vR z0] h Q ↔ Rn r 254 17 [l0, l1, some (vR z)] [vR z, vR z0] h Q := Rn_nx pg254 rfl rfl
theorem sX5_call_17 (hk : hK h a1 = 14) : Rn r 254 17 [l0, l1, l2] [vR z0, vR (some a1)] h Q ↔ Rn r 254 20 [l0, l1, l2] [] (putR h a1 1 z0) Q := Rn_nx pg254 rfl ((if_pos ⟨(hk ▸ Nat.le_refl _), (hk ▸ Nat.le_refl _)⟩).trans rfl)
theorem sX5_call_20 : Rn r 254 20 [l0, l1, l2] [] h Q ↔ Q (Sum.inl none) h := Rn_end pg254 rfl rfl
/-! 255 ThrowRules$Walk.close(LThrowRules$Method;)V -/
theorem eX5_close : Cl r 255 [vR z0, vR z1] h Q ↔ Rn r 255 0 [some (vR z0), some (vR z1), none] [] h Q := Cl_in pg255 rfl
theorem sX5_close_0 : Rn r 255 0 [some (vR z), l1, l2] [] h Q ↔ Rn r 255 1 [some (vR z), l1, l2] [vR z] h Q := Rn_nx pg255 rfl rfl
theorem sX5_close_1 : Rn r 255 1 [l0, some (vR z), l2] [vR z0] h Q ↔ Rn r 255 2 [l0, some (vR z), l2] [vR z, vR z0] h Q := Rn_nx pg255 rfl rfl
theorem sX5_close_2 (hk : hK h a1 = 14) : Rn r 255 2 [l0, l1, l2] [vR z0, vR (some a1)] h Q ↔ Cl r 291 [vR (some a1), vR z0] h (Kt r 255 5 [l0, l1, l2] [] Q) := Rn_call pg255 rfl (by simp only [am_exec, am_inv, am_pop, am_lk, hk]; rfl) pg291 rfl rfl rfl
theorem sX5_close_5 : Rn r 255 5 [l0, l1, l2] [vR z0] h Q ↔ Rn r 255 6 [l0, l1, some (vR z0)] [] h Q := Rn_nx pg255 rfl rfl
theorem sX5_close_6 : Rn r 255 6 [l0, l1, some (vR z)] [] h Q ↔ Rn r 255 7 [l0, l1, some (vR z)] [vR z] h Q := Rn_nx pg255 rfl rfl
theorem sX5_close_7 : Rn r 255 7 [l0, l1, l2] [vR z0] h Q ↔ if z0 = none then Rn r 255 28 [l0, l1, l2] [] h Q else Rn r 255 10 [l0, l1, l2] [] h Q := Rn_if pg255 rfl rfl rfl
theorem sX5_close_10 : Rn r 255 10 [some (vR z), l1, l2] [] h Q ↔ Rn r 255 11 [some (vR z), l1, l2] [vR z] h Q := Rn_nx pg255 rfl rfl
theorem sX5_close_11 (hk : hK h a0 = 14) : Rn r 255 11 [l0, l1, l2] [vR (some a0)] h Q ↔ Rn r 255 14 [l0, l1, l2] [vI (hI h a0 0)] h Q := Rn_nx pg255 rfl (if_pos ⟨(hk ▸ Nat.le_refl _), (hk ▸ Nat.le_refl _)⟩)
theorem sX5_close_14 : Rn r 255 14 [l0, l1, l2] [vI x0] h Q ↔ Rn r 255 15 [l0, l1, l2] [vI 1, vI x0] h Q := Rn_nx pg255 rfl rfl
theorem sX5_close_15 : Rn r 255 15 [l0, l1, l2] [vI x0, vI x1] h Q ↔ if x1 = x0 then Rn r 255 28 [l0, l1, l2] [] h Q else Rn r 255 18 [l0, l1, l2] [] h Q := Rn_if pg255 rfl rfl rfl
theorem sX5_close_18 : Rn r 255 18 [some (vR z), l1, l2] [] h Q ↔ Rn r 255 19 [some (vR z), l1, l2] [vR z] h Q := Rn_nx pg255 rfl rfl
theorem sX5_close_19 : Rn r 255 19 [l0, l1, l2] [vR z0] h Q ↔ Rn r 255 20 [l0, l1, l2] [vI 1, vR z0] h Q := Rn_nx pg255 rfl rfl
theorem sX5_close_20 (hk : hK h a1 = 14) : Rn r 255 20 [l0, l1, l2] [vI x0, vR (some a1)] h Q ↔ Rn r 255 23 [l0, l1, l2] [] (putI h a1 0 x0) Q := Rn_nx pg255 rfl ((if_pos ⟨(hk ▸ Nat.le_refl _), (hk ▸ Nat.le_refl _)⟩).trans rfl)
theorem sX5_close_23 : Rn r 255 23 [some (vR z), l1, l2] [] h Q ↔ Rn r 255 24 [some (vR z), l1, l2] [vR z] h Q := Rn_nx pg255 rfl rfl
theorem sX5_close_24 : Rn r 255 24 [l0, l1, some (vR z)] [vR z0] h Q ↔ Rn r 255 25 [l0, l1, some (vR z)] [vR z, vR z0] h Q := Rn_nx pg255 rfl rfl
theorem sX5_close_25 (hk : hK h a1 = 14) : Rn r 255 25 [l0, l1, l2] [vR z0, vR (some a1)] h Q ↔ Rn r 255 28 [l0, l1, l2] [] (putR h a1 1 z0) Q := Rn_nx pg255 rfl ((if_pos ⟨(hk ▸ Nat.le_refl _), (hk ▸ Nat.le_refl _)⟩).trans rfl)
theorem sX5_close_28 : Rn r 255 28 [l0, l1, l2] [] h Q ↔ Q (Sum.inl none) h := Rn_end pg255 rfl rfl
/-! 256 ThrowRules$Catch.catches(LThrowRules$Kind;)Z -/
theorem eX22_catches : Cl r 256 [vR z0, vR z1] h Q ↔ Rn r 256 0 [some (vR z0), some (vR z1), none, none] [] h Q := Cl_in pg256 rfl
theorem sX22_catches_0 : Rn r 256 0 [l0, l1, l2, l3] [] h Q ↔ Rn r 256 1 [l0, l1, l2, l3] [vI 0] h Q := Rn_nx pg256 rfl rfl
theorem sX22_catches_1 : Rn r 256 1 [l0, l1, l2, l3] [vI x0] h Q ↔ Rn r 256 2 [l0, l1, some (vI x0), l3] [] h Q := Rn_nx pg256 rfl rfl
theorem sX22_catches_2 : Rn r 256 2 [l0, l1, l2, l3] [] h Q ↔ Rn r 256 3 [l0, l1, l2, l3] [vI 0] h Q := Rn_nx pg256 rfl rfl
theorem sX22_catches_3 : Rn r 256 3 [l0, l1, l2, l3] [vI x0] h Q ↔ Rn r 256 4 [l0, l1, l2, some (vI x0)] [] h Q := Rn_nx pg256 rfl rfl
theorem sX22_catches_4 : Rn r 256 4 [l0, l1, l2, some (vI x)] [] h Q ↔ Rn r 256 5 [l0, l1, l2, some (vI x)] [vI x] h Q := Rn_nx pg256 rfl rfl
theorem sX22_catches_5 : Rn r 256 5 [some (vR z), l1, l2, l3] [vI x0] h Q ↔ Rn r 256 6 [some (vR z), l1, l2, l3] [vR z, vI x0] h Q := Rn_nx pg256 rfl rfl
theorem sX22_catches_6 (hk : hK h a0 = 22) : Rn r 256 6 [l0, l1, l2, l3] [vR (some a0), vI x1] h Q ↔ Rn r 256 9 [l0, l1, l2, l3] [vR (hR h a0 1), vI x1] h Q := Rn_nx pg256 rfl (if_pos ⟨(hk ▸ Nat.le_refl _), (hk ▸ Nat.le_refl _)⟩)
theorem sX22_catches_9 (hk : hK h a0 = 4) : Rn r 256 9 [l0, l1, l2, l3] [vR (some a0), vI x1] h Q ↔ Cl r 34 [vR (some a0)] h (Kt r 256 12 [l0, l1, l2, l3] [vI x1] Q) := Rn_call pg256 rfl (by simp only [am_exec, am_inv, am_pop, am_lk, hk]; rfl) pg34 rfl rfl rfl
theorem sX22_catches_12 : Rn r 256 12 [l0, l1, l2, l3] [vI x0, vI x1] h Q ↔ if x0 ≤ x1 then Rn r 256 67 [l0, l1, l2, l3] [] h Q else Rn r 256 15 [l0, l1, l2, l3] [] h Q := Rn_if pg256 rfl rfl rfl
theorem sX22_catches_15 : Rn r 256 15 [l0, l1, some (vI x), l3] [] h Q ↔ Rn r 256 16 [l0, l1, some (vI x), l3] [vI x] h Q := Rn_nx pg256 rfl rfl
theorem sX22_catches_16 : Rn r 256 16 [some (vR z), l1, l2, l3] [vI x0] h Q ↔ Rn r 256 17 [some (vR z), l1, l2, l3] [vR z, vI x0] h Q := Rn_nx pg256 rfl rfl
theorem sX22_catches_17 (hk : hK h a0 = 22) : Rn r 256 17 [l0, l1, l2, l3] [vR (some a0), vI x1] h Q ↔ Rn r 256 20 [l0, l1, l2, l3] [vR (hR h a0 1), vI x1] h Q := Rn_nx pg256 rfl (if_pos ⟨(hk ▸ Nat.le_refl _), (hk ▸ Nat.le_refl _)⟩)
theorem sX22_catches_20 : Rn r 256 20 [l0, l1, l2, some (vI x)] [vR z0, vI x1] h Q ↔ Rn r 256 21 [l0, l1, l2, some (vI x)] [vI x, vR z0, vI x1] h Q := Rn_nx pg256 rfl rfl
theorem sX22_catches_21 (hk : hK h a1 = 4) : Rn r 256 21 [l0, l1, l2, l3] [vI x0, vR (some a1), vI x2] h Q ↔ Cl r 43 [vR (some a1), vI x0] h (Kt r 256 24 [l0, l1, l2, l3] [vI x2] Q) := Rn_call pg256 rfl (by simp only [am_exec, am_inv, am_pop, am_lk, hk]; rfl) pg43 rfl rfl rfl
theorem sX22_catches_24_n : Rn r 256 24 [l0, l1, l2, l3] [vR none, vI x1] h Q ↔ Rn r 256 27 [l0, l1, l2, l3] [vR none, vI x1] h Q := Rn_nx pg256 rfl rfl
theorem sX22_catches_24 (hk : hK h a0 ∈ [19]) : Rn r 256 24 [l0, l1, l2, l3] [vR (some a0), vI x1] h Q ↔ Rn r 256 27 [l0, l1, l2, l3] [vR (some a0), vI x1] h Q := Rn_nx pg256 rfl (if_pos hk)
theorem sX22_catches_27 (hk : hK h a0 = 19) : Rn r 256 27 [l0, l1, l2, l3] [vR (some a0), vI x1] h Q ↔ Rn r 256 30 [l0, l1, l2, l3] [vR (hR h a0 0), vI x1] h Q := Rn_nx pg256 rfl (if_pos ⟨(hk ▸ Nat.le_refl _), (hk ▸ Nat.le_refl _)⟩)
theorem sX22_catches_30 : Rn r 256 30 [l0, l1, l2, l3] [vR z0, vI x1] h Q ↔ if z0 = none then Rn r 256 58 [l0, l1, l2, l3] [vI x1] h Q else Rn r 256 33 [l0, l1, l2, l3] [vI x1] h Q := Rn_if pg256 rfl rfl rfl
theorem sX22_catches_33 : Rn r 256 33 [l0, some (vR z), l2, l3] [vI x0] h Q ↔ Rn r 256 34 [l0, some (vR z), l2, l3] [vR z, vI x0] h Q := Rn_nx pg256 rfl rfl
theorem sX22_catches_34 : Rn r 256 34 [some (vR z), l1, l2, l3] [vR z0, vI x1] h Q ↔ Rn r 256 35 [some (vR z), l1, l2, l3] [vR z, vR z0, vI x1] h Q := Rn_nx pg256 rfl rfl
theorem sX22_catches_35 (hk : hK h a0 = 22) : Rn r 256 35 [l0, l1, l2, l3] [vR (some a0), vR z1, vI x2] h Q ↔ Rn r 256 38 [l0, l1, l2, l3] [vR (hR h a0 1), vR z1, vI x2] h Q := Rn_nx pg256 rfl (if_pos ⟨(hk ▸ Nat.le_refl _), (hk ▸ Nat.le_refl _)⟩)
theorem sX22_catches_38 : Rn r 256 38 [l0, l1, l2, some (vI x)] [vR z0, vR z1, vI x2] h Q ↔ Rn r 256 39 [l0, l1, l2, some (vI x)] [vI x, vR z0, vR z1, vI x2] h Q := Rn_nx pg256 rfl rfl
theorem sX22_catches_39 (hk : hK h a1 = 4) : Rn r 256 39 [l0, l1, l2, l3] [vI x0, vR (some a1), vR z2, vI x3] h Q ↔ Cl r 43 [vR (some a1), vI x0] h (Kt r 256 42 [l0, l1, l2, l3] [vR z2, vI x3] Q) := Rn_call pg256 rfl (by simp only [am_exec, am_inv, am_pop, am_lk, hk]; rfl) pg43 rfl rfl rfl
theorem sX22_catches_42_n : Rn r 256 42 [l0, l1, l2, l3] [vR none, vR z1, vI x2] h Q ↔ Rn r 256 45 [l0, l1, l2, l3] [vR none, vR z1, vI x2] h Q := Rn_nx pg256 rfl rfl
theorem sX22_catches_42 (hk : hK h a0 ∈ [19]) : Rn r 256 42 [l0, l1, l2, l3] [vR (some a0), vR z1, vI x2] h Q ↔ Rn r 256 45 [l0, l1, l2, l3] [vR (some a0), vR z1, vI x2] h Q := Rn_nx pg256 rfl (if_pos hk)
theorem sX22_catches_45 (hk : hK h a0 = 19) : Rn r 256 45 [l0, l1, l2, l3] [vR (some a0), vR z1, vI x2] h Q ↔ Rn r 256 48 [l0, l1, l2, l3] [vR (hR h a0 0), vR z1, vI x2] h Q := Rn_nx pg256 rfl (if_pos ⟨(hk ▸ Nat.le_refl _), (hk ▸ Nat.le_refl _)⟩)
theorem sX22_catches_48 (hk : hK h a1 = 7) : Rn r 256 48 [l0, l1, l2, l3] [vR z0, vR (some a1), vI x2] h Q ↔ Cl r 47 [vR (some a1), vR z0] h (Kt r 256 51 [l0, l1, l2, l3] [vI x2] Q) := Rn_call pg256 rfl (by simp only [am_exec, am_inv, am_pop, am_lk, hk]; rfl) pg47 rfl rfl rfl
theorem sX22_catches_51 : Rn r 256 51 [l0, l1, l2, l3] [vI x0, vI x1] h Q ↔ if x0 = 0 then Rn r 256 58 [l0, l1, l2, l3] [vI x1] h Q else Rn r 256 54 [l0, l1, l2, l3] [vI x1] h Q := Rn_if pg256 rfl rfl rfl
theorem sX22_catches_54 : Rn r 256 54 [l0, l1, l2, l3] [vI x0] h Q ↔ Rn r 256 55 [l0, l1, l2, l3] [vI 1, vI x0] h Q := Rn_nx pg256 rfl rfl
theorem sX22_catches_55 : Rn r 256 55 [l0, l1, l2, l3] [vI x0, vI x1] h Q ↔ Rn r 256 59 [l0, l1, l2, l3] [vI x0, vI x1] h Q := Rn_nx pg256 rfl rfl
theorem sX22_catches_58 : Rn r 256 58 [l0, l1, l2, l3] [vI x0] h Q ↔ Rn r 256 59 [l0, l1, l2, l3] [vI 0, vI x0] h Q := Rn_nx pg256 rfl rfl
theorem sX22_catches_59 : Rn r 256 59 [l0, l1, l2, l3] [vI x0, vI x1] h Q ↔ Rn r 256 60 [l0, l1, l2, l3] [vI (x1 ||| x0)] h Q := Rn_nx pg256 rfl rfl
theorem sX22_catches_60 : Rn r 256 60 [l0, l1, l2, l3] [vI x0] h Q ↔ Rn r 256 61 [l0, l1, some (vI x0), l3] [] h Q := Rn_nx pg256 rfl rfl
theorem sX22_catches_61 : Rn r 256 61 [l0, l1, l2, some (vI x)] [] h Q ↔ Rn r 256 64 [l0, l1, l2, some (vI (x + 1))] [] h Q := Rn_nx pg256 rfl rfl
theorem sX22_catches_64 : Rn r 256 64 [l0, l1, l2, l3] [] h Q ↔ Rn r 256 4 [l0, l1, l2, l3] [] h Q := Rn_nx pg256 rfl rfl
theorem sX22_catches_67 : Rn r 256 67 [l0, l1, some (vI x), l3] [] h Q ↔ Rn r 256 68 [l0, l1, some (vI x), l3] [vI x] h Q := Rn_nx pg256 rfl rfl
theorem sX22_catches_68 (hf : am_fit 4 x0 = true) : Rn r 256 68 [l0, l1, l2, l3] [vI x0] h Q ↔ Q (Sum.inl (some (vI x0))) h := Rn_end pg256 rfl (if_pos hf)
/-! 257 java/util/ArrayList.grow(I)[Ljava/lang/Object; -/
theorem eJ5_grow_2 : Cl r 257 [vR z0, vI x1] h Q ↔ Rn r 257 0 [some (vR z0), some (vI x1), none, none] [] h Q := Cl_in pg257 rfl
theorem sJ5_grow_2_0 : Rn r 257 0 [some (vR z), l1, l2, l3] [] h Q ↔ Rn r 257 1 [some (vR z), l1, l2, l3] [vR z] h Q := Rn_nx pg257 rfl rfl
theorem sJ5_grow_2_1 (hk : hK h a0 = 4) : Rn r 257 1 [l0, l1, l2, l3] [vR (some a0)] h Q ↔ Rn r 257 4 [l0, l1, l2, l3] [vR (hR h a0 1)] h Q := Rn_nx pg257 rfl (if_pos ⟨(hk ▸ Nat.le_refl _), (hk ▸ Nat.le_refl _)⟩)
theorem sJ5_grow_2_4 (hk : 40 ≤ hK h a0) (hk2 : hK h a0 ≤ 49) : Rn r 257 4 [l0, l1, l2, l3] [vR (some a0)] h Q ↔ Rn r 257 5 [l0, l1, l2, l3] [vI (nI (hL h a0))] h Q := Rn_nx pg257 rfl (if_pos ⟨hk, hk2⟩)
theorem sJ5_grow_2_5 : Rn r 257 5 [l0, l1, l2, l3] [vI x0] h Q ↔ Rn r 257 6 [l0, l1, some (vI x0), l3] [] h Q := Rn_nx pg257 rfl rfl
theorem sJ5_grow_2_6 : Rn r 257 6 [l0, l1, some (vI x), l3] [] h Q ↔ Rn r 257 7 [l0, l1, some (vI x), l3] [vI x] h Q := Rn_nx pg257 rfl rfl
theorem sJ5_grow_2_7 : Rn r 257 7 [l0, l1, l2, l3] [vI x0] h Q ↔ if 0 < x0 then Rn r 257 20 [l0, l1, l2, l3] [] h Q else Rn r 257 10 [l0, l1, l2, l3] [] h Q := Rn_if pg257 rfl rfl rfl
theorem sJ5_grow_2_10 : Rn r 257 10 [some (vR z), l1, l2, l3] [] h Q ↔ Rn r 257 11 [some (vR z), l1, l2, l3] [vR z] h Q := Rn_nx pg257 rfl rfl
theorem sJ5_grow_2_11 (hk : hK h a0 = 4) : Rn r 257 11 [l0, l1, l2, l3] [vR (some a0)] h Q ↔ Rn r 257 14 [l0, l1, l2, l3] [vR (hR h a0 1)] h Q := Rn_nx pg257 rfl (if_pos ⟨(hk ▸ Nat.le_refl _), (hk ▸ Nat.le_refl _)⟩)
theorem sJ5_grow_2_14 : Rn r 257 14 [l0, l1, l2, l3] [vR z0] h Q ↔ Rn r 257 17 [l0, l1, l2, l3] [vR (some (hE h 31)), vR z0] h Q := Rn_nx pg257 rfl rfl
theorem sJ5_grow_2_17 : Rn r 257 17 [l0, l1, l2, l3] [vR z0, vR z1] h Q ↔ if z1 = z0 then Rn r 257 45 [l0, l1, l2, l3] [] h Q else Rn r 257 20 [l0, l1, l2, l3] [] h Q := Rn_if pg257 rfl rfl rfl
theorem sJ5_grow_2_20 : Rn r 257 20 [l0, l1, some (vI x), l3] [] h Q ↔ Rn r 257 21 [l0, l1, some (vI x), l3] [vI x] h Q := Rn_nx pg257 rfl rfl
theorem sJ5_grow_2_21 : Rn r 257 21 [l0, some (vI x), l2, l3] [vI x0] h Q ↔ Rn r 257 22 [l0, some (vI x), l2, l3] [vI x, vI x0] h Q := Rn_nx pg257 rfl rfl
theorem sJ5_grow_2_22 : Rn r 257 22 [l0, l1, some (vI x), l3] [vI x0, vI x1] h Q ↔ Rn r 257 23 [l0, l1, some (vI x), l3] [vI x, vI x0, vI x1] h Q := Rn_nx pg257 rfl rfl
theorem sJ5_grow_2_23 : Rn r 257 23 [l0, l1, l2, l3] [vI x0, vI x1, vI x2] h Q ↔ Rn r 257 24 [l0, l1, l2, l3] [vI (x1 - x0), vI x2] h Q := Rn_nx pg257 rfl rfl
theorem sJ5_grow_2_24 : Rn r 257 24 [l0, l1, some (vI x), l3] [vI x0, vI x1] h Q ↔ Rn r 257 25 [l0, l1, some (vI x), l3] [vI x, vI x0, vI x1] h Q := Rn_nx pg257 rfl rfl
theorem sJ5_grow_2_25 : Rn r 257 25 [l0, l1, l2, l3] [vI x0, vI x1, vI x2] h Q ↔ Rn r 257 26 [l0, l1, l2, l3] [vI 1, vI x0, vI x1, vI x2] h Q := Rn_nx pg257 rfl rfl
theorem sJ5_grow_2_26 : Rn r 257 26 [l0, l1, l2, l3] [vI x0, vI x1, vI x2, vI x3] h Q ↔ Rn r 257 27 [l0, l1, l2, l3] [vI (x1 >>> (x0 &&& 31)), vI x2, vI x3] h Q := Rn_nx pg257 rfl rfl
theorem sJ5_grow_2_27 : Rn r 257 27 [l0, l1, l2, l3] [vI x0, vI x1, vI x2] h Q ↔ Cl r 245 [vI x2, vI x1, vI x0] h (Kt r 257 30 [l0, l1, l2, l3] [] Q) := Rn_call pg257 rfl rfl pg245 rfl rfl rfl
theorem sJ5_grow_2_30 : Rn r 257 30 [l0, l1, l2, l3] [vI x0] h Q ↔ Rn r 257 31 [l0, l1, l2, some (vI x0)] [] h Q := Rn_nx pg257 rfl rfl
theorem sJ5_grow_2_31 : Rn r 257 31 [some (vR z), l1, l2, l3] [] h Q ↔ Rn r 257 32 [some (vR z), l1, l2, l3] [vR z] h Q := Rn_nx pg257 rfl rfl
theorem sJ5_grow_2_32 : Rn r 257 32 [some (vR z), l1, l2, l3] [vR z0] h Q ↔ Rn r 257 33 [some (vR z), l1, l2, l3] [vR z, vR z0] h Q := Rn_nx pg257 rfl rfl
theorem sJ5_grow_2_33 (hk : hK h a0 = 4) : Rn r 257 33 [l0, l1, l2, l3] [vR (some a0), vR z1] h Q ↔ Rn r 257 36 [l0, l1, l2, l3] [vR (hR h a0 1), vR z1] h Q := Rn_nx pg257 rfl (if_pos ⟨(hk ▸ Nat.le_refl _), (hk ▸ Nat.le_refl _)⟩)
theorem sJ5_grow_2_36 : Rn r 257 36 [l0, l1, l2, some (vI x)] [vR z0, vR z1] h Q ↔ Rn r 257 37 [l0, l1, l2, some (vI x)] [vI x, vR z0, vR z1] h Q := Rn_nx pg257 rfl rfl
theorem sJ5_grow_2_37 : Rn r 257 37 [l0, l1, l2, l3] [vI x0, vR z1, vR z2] h Q ↔ Cl r 292 [vR z1, vI x0] h (Kt r 257 40 [l0, l1, l2, l3] [vR z2] Q) := Rn_call pg257 rfl rfl pg292 rfl rfl rfl
theorem sJ5_grow_2_40 : Rn r 257 40 [l0, l1, l2, l3] [vR z0, vR z1] h Q ↔ Rn r 257 41 [l0, l1, l2, l3] [vR z0, vR z1, vR z0] h Q := Rn_nx pg257 rfl rfl
theorem sJ5_grow_2_41 (hk : hK h a1 = 4) : Rn r 257 41 [l0, l1, l2, l3] [vR z0, vR (some a1), vR z2] h Q ↔ Rn r 257 44 [l0, l1, l2, l3] [vR z2] (putR h a1 1 z0) Q := Rn_nx pg257 rfl ((if_pos ⟨(hk ▸ Nat.le_refl _), (hk ▸ Nat.le_refl _)⟩).trans rfl)
theorem sJ5_grow_2_44 : Rn r 257 44 [l0, l1, l2, l3] [vR z0] h Q ↔ Q (Sum.inl (some (vR z0))) h := Rn_end pg257 rfl rfl
theorem sJ5_grow_2_45 : Rn r 257 45 [some (vR z), l1, l2, l3] [] h Q ↔ Rn r 257 46 [some (vR z), l1, l2, l3] [vR z] h Q := Rn_nx pg257 rfl rfl
theorem sJ5_grow_2_46 : Rn r 257 46 [l0, l1, l2, l3] [vR z0] h Q ↔ Rn r 257 48 [l0, l1, l2, l3] [vI 10, vR z0] h Q := Rn_nx pg257 rfl rfl
theorem sJ5_grow_2_48 : Rn r 257 48 [l0, some (vI x), l2, l3] [vI x0, vR z1] h Q ↔ Rn r 257 49 [l0, some (vI x), l2, l3] [vI x, vI x0, vR z1] h Q := Rn_nx pg257 rfl rfl
theorem sJ5_grow_2_49 : Rn r 257 49 [l0, l1, l2, l3] [vI x0, vI x1, vR z2] h Q ↔ Cl r 266 [vI x1, vI x0] h (Kt r 257 52 [l0, l1, l2, l3] [vR z2] Q) := Rn_call pg257 rfl rfl pg266 rfl rfl rfl
theorem sJ5_grow_2_52 (hn : ¬ (x0 < 0 ∨ 65536 < x0.toNatClampNeg)) : Rn r 257 52 [l0, l1, l2, l3] [vI x0, vR z1] h Q ↔ Rn r 257 55 [l0, l1, l2, l3] [vR (some (hN h)), vR z1] (newC h 46 x0.toNatClampNeg) Q := Rn_nx pg257 rfl (if_neg hn)
theorem sJ5_grow_2_55 : Rn r 257 55 [l0, l1, l2, l3] [vR z0, vR z1] h Q ↔ Rn r 257 56 [l0, l1, l2, l3] [vR z0, vR z1, vR z0] h Q := Rn_nx pg257 rfl rfl
theorem sJ5_grow_2_56 (hk : hK h a1 = 4) : Rn r 257 56 [l0, l1, l2, l3] [vR z0, vR (some a1), vR z2] h Q ↔ Rn r 257 59 [l0, l1, l2, l3] [vR z2] (putR h a1 1 z0) Q := Rn_nx pg257 rfl ((if_pos ⟨(hk ▸ Nat.le_refl _), (hk ▸ Nat.le_refl _)⟩).trans rfl)
theorem sJ5_grow_2_59 : Rn r 257 59 [l0, l1, l2, l3] [vR z0] h Q ↔ Q (Sum.inl (some (vR z0))) h := Rn_end pg257 rfl rfl
/-! 258 java/util/HashMap$Node.<init>(ILjava/lang/Object;Ljava/lang/Object;Ljava/util/HashMap$Node;)V -/
theorem eJ19_init : Cl r 258 [vR z0, vI x1, vR z2, vR z3, vR z4] h Q ↔ Rn r 258 0 [some (vR z0), some (vI x1), some (vR z2), some (vR z3), some (vR z4)] [] h Q := Cl_in pg258 rfl
theorem sJ19_init_0 : Rn r 258 0 [some (vR z), l1, l2, l3, l4] [] h Q ↔ Rn r 258 1 [some (vR z), l1, l2, l3, l4] [vR z] h Q := Rn_nx pg258 rfl rfl
theorem sJ19_init_1 : Rn r 258 1 [l0, l1, l2, l3, l4] [vR (some a0)] h Q ↔ Rn r 258 4 [l0, l1, l2, l3, l4] [] h Q := Rn_nx pg258 rfl rfl
theorem sJ19_init_4 : Rn r 258 4 [some (vR z), l1, l2, l3, l4] [] h Q ↔ Rn r 258 5 [some (vR z), l1, l2, l3, l4] [vR z] h Q := Rn_nx pg258 rfl rfl
theorem sJ19_init_5 : Rn r 258 5 [l0, some (vI x), l2, l3, l4] [vR z0] h Q ↔ Rn r 258 6 [l0, some (vI x), l2, l3, l4] [vI x, vR z0] h Q := Rn_nx pg258 rfl rfl
theorem sJ19_init_6 (hk : 12 ≤ hK h a1) (hk2 : hK h a1 ≤ 13) : Rn r 258 6 [l0, l1, l2, l3, l4] [vI x0, vR (some a1)] h Q ↔ Rn r 258 9 [l0, l1, l2, l3, l4] [] (putI h a1 0 x0) Q := Rn_nx pg258 rfl ((if_pos ⟨hk, hk2⟩).trans rfl)
theorem sJ19_init_9 : Rn r 258 9 [some (vR z), l1, l2, l3, l4] [] h Q ↔ Rn r 258 10 [some (vR z), l1, l2, l3, l4] [vR z] h Q := Rn_nx pg258 rfl rfl
theorem sJ19_init_10 : Rn r 258 10 [l0, l1, some (vR z), l3, l4] [vR z0] h Q ↔ Rn r 258 11 [l0, l1, some (vR z), l3, l4] [vR z, vR z0] h Q := Rn_nx pg258 rfl rfl
theorem sJ19_init_11 (hk : 12 ≤ hK h a1) (hk2 : hK h a1 ≤ 13) : Rn r 258 11 [l0, l1, l2, l3, l4] [vR z0, vR (some a1)] h Q ↔ Rn r 258 14 [l0, l1, l2, l3, l4] [] (putR h a1 1 z0) Q := Rn_nx pg258 rfl ((if_pos ⟨hk, hk2⟩).trans rfl)
theorem sJ19_init_14 : Rn r 258 14 [some (vR z), l1, l2, l3, l4] [] h Q ↔ Rn r 258 15 [some (vR z), l1, l2, l3, l4] [vR z] h Q := Rn_nx pg258 rfl rfl
theorem sJ19_init_15 : Rn r 258 15 [l0, l1, l2, some (vR z), l4] [vR z0] h Q ↔ Rn r 258 16 [l0, l1, l2, some (vR z), l4] [vR z, vR z0] h Q := Rn_nx pg258 rfl rfl
theorem sJ19_init_16 (hk : 12 ≤ hK h a1) (hk2 : hK h a1 ≤ 13) : Rn r 258 16 [l0, l1, l2, l3, l4] [vR z0, vR (some a1)] h Q ↔ Rn r 258 19 [l0, l1, l2, l3, l4] [] (putR h a1 2 z0) Q := Rn_nx pg258 rfl ((if_pos ⟨hk, hk2⟩).trans rfl)
theorem sJ19_init_19 : Rn r 258 19 [some (vR z), l1, l2, l3, l4] [] h Q ↔ Rn r 258 20 [some (vR z), l1, l2, l3, l4] [vR z] h Q := Rn_nx pg258 rfl rfl
theorem sJ19_init_20 : Rn r 258 20 [l0, l1, l2, l3, some (vR z)] [vR z0] h Q ↔ Rn r 258 22 [l0, l1, l2, l3, some (vR z)] [vR z, vR z0] h Q := Rn_nx pg258 rfl rfl
theorem sJ19_init_22 (hk : 12 ≤ hK h a1) (hk2 : hK h a1 ≤ 13) : Rn r 258 22 [l0, l1, l2, l3, l4] [vR z0, vR (some a1)] h Q ↔ Rn r 258 25 [l0, l1, l2, l3, l4] [] (putR h a1 3 z0) Q := Rn_nx pg258 rfl ((if_pos ⟨hk, hk2⟩).trans rfl)
theorem sJ19_init_25 : Rn r 258 25 [l0, l1, l2, l3, l4] [] h Q ↔ Q (Sum.inl none) h := Rn_end pg258 rfl rfl
/-! 259 java/util/HashMap.newTreeNode(ILjava/lang/Object;Ljava/lang/Object;Ljava/util/HashMap$Node;)Ljava/util/HashMap$TreeNode; -/
theorem eJ7_newTreeNode : Cl r 259 [vR z0, vI x1, vR z2, vR z3, vR z4] h Q ↔ Rn r 259 0 [some (vR z0), some (vI x1), some (vR z2), some (vR z3), some (vR z4)] [] h Q := Cl_in pg259 rfl
theorem sJ7_newTreeNode_0 : Rn r 259 0 [l0, l1, l2, l3, l4] [] h Q ↔ Rn r 259 3 [l0, l1, l2, l3, l4] [vR (some (hN h))] (newC h 13 11) Q := Rn_nx pg259 rfl rfl
theorem sJ7_newTreeNode_3 : Rn r 259 3 [l0, l1, l2, l3, l4] [vR z0] h Q ↔ Rn r 259 4 [l0, l1, l2, l3, l4] [vR z0, vR z0] h Q := Rn_nx pg259 rfl rfl
theorem sJ7_newTreeNode_4 : Rn r 259 4 [l0, some (vI x), l2, l3, l4] [vR z0, vR z1] h Q ↔ Rn r 259 5 [l0, some (vI x), l2, l3, l4] [vI x, vR z0, vR z1] h Q := Rn_nx pg259 rfl rfl
theorem sJ7_newTreeNode_5 : Rn r 259 5 [l0, l1, some (vR z), l3, l4] [vI x0, vR z1, vR z2] h Q ↔ Rn r 259 6 [l0, l1, some (vR z), l3, l4] [vR z, vI x0, vR z1, vR z2] h Q := Rn_nx pg259 rfl rfl
theorem sJ7_newTreeNode_6 : Rn r 259 6 [l0, l1, l2, some (vR z), l4] [vR z0, vI x1, vR z2, vR z3] h Q ↔ Rn r 259 7 [l0, l1, l2, some (vR z), l4] [vR z, vR z0, vI x1, vR z2, vR z3] h Q := Rn_nx pg259 rfl rfl
theorem sJ7_newTreeNode_7 : Rn r 259 7 [l0, l1, l2, l3, some (vR z)] [vR z0, vR z1, vI x2, vR z3, vR z4] h Q ↔ Rn r 259 9 [l0, l1, l2, l3, some (vR z)] [vR z, vR z0, vR z1, vI x2, vR z3, vR z4] h Q := Rn_nx pg259 rfl rfl
theorem sJ7_newTreeNode_9 (hk : 0 < hK h a4) (hk2 : hK h a4 < 40) : Rn r 259 9 [l0, l1, l2, l3, l4] [vR z0, vR z1, vR z2, vI x3, vR (some a4), vR z5] h Q ↔ Cl r 293 [vR (some a4), vI x3, vR z2, vR z1, vR z0] h (Kt r 259 12 [l0, l1, l2, l3, l4] [vR z5] Q) := Rn_call pg259 rfl (if_pos ⟨hk, hk2⟩) pg293 rfl rfl rfl
theorem sJ7_newTreeNode_12 : Rn r 259 12 [l0, l1, l2, l3, l4] [vR z0] h Q ↔ Q (Sum.inl (some (vR z0))) h := Rn_end pg259 rfl rfl
/-! 260 java/util/HashMap$TreeNode.balanceInsertion(Ljava/util/HashMap$TreeNode;Ljava/util/HashMap$TreeNode;)Ljava/util/HashMap$TreeNode; -/
theorem eJ21_balanceInsertion : Cl r 260 [vR z0, vR z1] h Q ↔ Rn r 260 0 [some (vR z0), some (vR z1), none, none, none, none] [] h Q := Cl_in pg260 rfl
theorem sJ21_balanceInsertion_0 : Rn r 260 0 [l0, some (vR z), l2, l3, l4, l5] [] h Q ↔ Rn r 260 1 [l0, some (vR z), l2, l3, l4, l5] [vR z] h Q := Rn_nx pg260 rfl rfl
theorem sJ21_balanceInsertion_1 : Rn r 260 1 [l0, l1, l2, l3, l4, l5] [vR z0] h Q ↔ Rn r 260 2 [l0, l1, l2, l3, l4, l5] [vI 1, vR z0] h Q := Rn_nx pg260 rfl rfl
theorem sJ21_balanceInsertion_2 (hk : hK h a1 = 13) (hf : am_fit 4 x0 = true) : Rn r 260 2 [l0, l1, l2, l3, l4, l5] [vI x0, vR (some a1)] h Q ↔ Rn r 260 5 [l0, l1, l2, l3, l4, l5] [] (putI h a1 8 x0) Q := Rn_nx pg260 rfl ((if_pos ⟨(hk ▸ Nat.le_refl _), (hk ▸ Nat.le_refl _)⟩).trans (if_pos hf))
theorem sJ21_balanceInsertion_5 : Rn r 260 5 [l0, some (vR z), l2, l3, l4, l5] [] h Q ↔ Rn r 260 6 [l0, some (vR z), l2, l3, l4, l5] [vR z] h Q := Rn_nx pg260 rfl rfl
theorem sJ21_balanceInsertion_6 (hk : hK h a0 = 13) : Rn r 260 6 [l0, l1, l2, l3, l4, l5] [vR (some a0)] h Q ↔ Rn r 260 9 [l0, l1, l2, l3, l4, l5] [vR (hR h a0 4)] h Q := Rn_nx pg260 rfl (if_pos ⟨(hk ▸ Nat.le_refl _), (hk ▸ Nat.le_refl _)⟩)
theorem sJ21_balanceInsertion_9 : Rn r 260 9 [l0, l1, l2, l3, l4, l5] [vR z0] h Q ↔ Rn r 260 10 [l0, l1, l2, l3, l4, l5] [vR z0, vR z0] h Q := Rn_nx pg260 rfl rfl
theorem sJ21_balanceInsertion_10 : Rn r 260 10 [l0, l1, l2, l3, l4, l5] [vR z0, vR z1] h Q ↔ Rn r 260 11 [l0, l1, some (vR z0), l3, l4, l5] [vR z1] h Q := Rn_nx pg260 rfl rfl
theorem sJ21_balanceInsertion_11 : Rn r 260 11 [l0, l1, l2, l3, l4, l5] [vR z0] h Q ↔ if z0 ≠ none then Rn r 260 21 [l0, l1, l2, l3, l4, l5] [] h Q else Rn r 260 14 [l0, l1, l2, l3, l4, l5] [] h Q := Rn_if pg260 rfl rfl rfl
theorem sJ21_balanceInsertion_14 : Rn r 260 14 [l0, some (vR z), l2, l3, l4, l5] [] h Q ↔ Rn r 260 15 [l0, some (vR z), l2, l3, l4, l5] [vR z] h Q := Rn_nx pg260 rfl rfl
theorem sJ21_balanceInsertion_15 : Rn r 260 15 [l0, l1, l2, l3, l4, l5] [vR z0] h Q ↔ Rn r 260 16 [l0, l1, l2, l3, l4, l5] [vI 0, vR z0] h Q := Rn_nx pg260 rfl rfl
theorem sJ21_balanceInsertion_16 (hk : hK h a1 = 13) (hf : am_fit 4 x0 = true) : Rn r 260 16 [l0, l1, l2, l3, l4, l5] [vI x0, vR (some a1)] h Q ↔ Rn r 260 19 [l0, l1, l2, l3, l4, l5] [] (putI h a1 8 x0) Q := Rn_nx pg260 rfl ((if_pos ⟨(hk ▸ Nat.le_refl _), (hk ▸ Nat.le_refl _)⟩).trans (if_pos hf))
theorem sJ21_balanceInsertion_19 : Rn r 260 19 [l0, some (vR z), l2, l3, l4, l5] [] h Q ↔ Rn r 260 20 [l0, some (vR z), l2, l3, l4, l5] [vR z] h Q := Rn_nx pg260 rfl rfl
theorem sJ21_balanceInsertion_20 : Rn r 260 20 [l0, l1, l2, l3, l4, l5] [vR z0] h Q ↔ Q (Sum.inl (some (vR z0))) h := Rn_end pg260 rfl rfl
theorem sJ21_balanceInsertion_21 : Rn r 260 21 [l0, l1, some (vR z), l3, l4, l5] [] h Q ↔ Rn r 260 22 [l0, l1, some (vR z), l3, l4, l5] [vR z] h Q := Rn_nx pg260 rfl rfl
theorem sJ21_balanceInsertion_22 (hk : hK h a0 = 13) : Rn r 260 22 [l0, l1, l2, l3, l4, l5] [vR (some a0)] h Q ↔ Rn r 260 25 [l0, l1, l2, l3, l4, l5] [vI (hI h a0 8)] h Q := Rn_nx pg260 rfl (if_pos ⟨(hk ▸ Nat.le_refl _), (hk ▸ Nat.le_refl _)⟩)
theorem sJ21_balanceInsertion_25 : Rn r 260 25 [l0, l1, l2, l3, l4, l5] [vI x0] h Q ↔ if x0 = 0 then Rn r 260 37 [l0, l1, l2, l3, l4, l5] [] h Q else Rn r 260 28 [l0, l1, l2, l3, l4, l5] [] h Q := Rn_if pg260 rfl rfl rfl
theorem sJ21_balanceInsertion_28 : Rn r 260 28 [l0, l1, some (vR z), l3, l4, l5] [] h Q ↔ Rn r 260 29 [l0, l1, some (vR z), l3, l4, l5] [vR z] h Q := Rn_nx pg260 rfl rfl
theorem sJ21_balanceInsertion_29 (hk : hK h a0 = 13) : Rn r 260 29 [l0, l1, l2, l3, l4, l5] [vR (some a0)] h Q ↔ Rn r 260 32 [l0, l1, l2, l3, l4, l5] [vR (hR h a0 4)] h Q := Rn_nx pg260 rfl (if_pos ⟨(hk ▸ Nat.le_refl _), (hk ▸ Nat.le_refl _)⟩)
theorem sJ21_balanceInsertion_32 : Rn r 260 32 [l0, l1, l2, l3, l4, l5] [vR z0] h Q ↔ Rn r 260 33 [l0, l1, l2, l3, l4, l5] [vR z0, vR z0] h Q := Rn_nx pg260 rfl rfl
theorem sJ21_balanceInsertion_33 : Rn r 260 33 [l0, l1, l2, l3, l4, l5] [vR z0, vR z1] h Q ↔ Rn r 260 34 [l0, l1, l2, some (vR z0), l4, l5] [vR z1] h Q := Rn_nx pg260 rfl rfl
theorem sJ21_balanceInsertion_34 : Rn r 260 34 [l0, l1, l2, l3, l4, l5] [vR z0] h Q ↔ if z0 ≠ none then Rn r 260 39 [l0, l1, l2, l3, l4, l5] [] h Q else Rn r 260 37 [l0, l1, l2, l3, l4, l5] [] h Q := Rn_if pg260 rfl rfl rfl
theorem sJ21_balanceInsertion_37 : Rn r 260 37 [some (vR z), l1, l2, l3, l4, l5] [] h Q ↔ Rn r 260 38 [some (vR z), l1, l2, l3, l4, l5] [vR z] h Q := Rn_nx pg260 rfl rfl
theorem sJ21_balanceInsertion_38 : Rn r 260 38 [l0, l1, l2, l3, l4, l5] [vR z0] h Q ↔ Q (Sum.inl (some (vR z0))) h := Rn_end pg260 rfl rfl
theorem sJ21_balanceInsertion_39 : Rn r 260 39 [l0, l1, some (vR z), l3, l4, l5] [] h Q ↔ Rn r 260 40 [l0, l1, some (vR z), l3, l4, l5] [vR z] h Q := Rn_nx pg260 rfl rfl
theorem sJ21_balanceInsertion_40 : Rn r 260 40 [l0, l1, l2, some (vR z), l4, l5] [vR z0] h Q ↔ Rn r 260 41 [l0, l1, l2, some (vR z), l4, l5] [vR z, vR z0] h Q := Rn_nx pg260 rfl rfl
theorem sJ21_balanceInsertion_41 (hk : hK h a0 = 13) : Rn r 260 41 [l0, l1, l2, l3, l4, l5] [vR (some a0), vR z1] h Q ↔ Rn r 260 44 [l0, l1, l2, l3, l4, l5] [vR (hR h a0 5), vR z1] h Q := Rn_nx pg260 rfl (if_pos ⟨(hk ▸ Nat.le_refl _), (hk ▸ Nat.le_refl _)⟩)
theorem sJ21_balanceInsertion_44 : Rn r 260 44 [l0, l1, l2, l3, l4, l5] [vR z0, vR z1] h Q ↔ Rn r 260 45 [l0, l1, l2, l3, l4, l5] [vR z0, vR z0, vR z1] h Q := Rn_nx pg260 rfl rfl
theorem sJ21_balanceInsertion_45 : Rn r 260 45 [l0, l1, l2, l3, l4, l5] [vR z0, vR z1, vR z2] h Q ↔ Rn r 260 47 [l0, l1, l2, l3, some (vR z0), l5] [vR z1, vR z2] h Q := Rn_nx pg260 rfl rfl
theorem sJ21_balanceInsertion_47 : Rn r 260 47 [l0, l1, l2, l3, l4, l5] [vR z0, vR z1] h Q ↔ if z1 ≠ z0 then Rn r 260 150 [l0, l1, l2, l3, l4, l5] [] h Q else Rn r 260 50 [l0, l1, l2, l3, l4, l5] [] h Q := Rn_if pg260 rfl rfl rfl
theorem sJ21_balanceInsertion_50 : Rn r 260 50 [l0, l1, l2, some (vR z), l4, l5] [] h Q ↔ Rn r 260 51 [l0, l1, l2, some (vR z), l4, l5] [vR z] h Q := Rn_nx pg260 rfl rfl
theorem sJ21_balanceInsertion_51 (hk : hK h a0 = 13) : Rn r 260 51 [l0, l1, l2, l3, l4, l5] [vR (some a0)] h Q ↔ Rn r 260 54 [l0, l1, l2, l3, l4, l5] [vR (hR h a0 6)] h Q := Rn_nx pg260 rfl (if_pos ⟨(hk ▸ Nat.le_refl _), (hk ▸ Nat.le_refl _)⟩)
theorem sJ21_balanceInsertion_54 : Rn r 260 54 [l0, l1, l2, l3, l4, l5] [vR z0] h Q ↔ Rn r 260 55 [l0, l1, l2, l3, l4, l5] [vR z0, vR z0] h Q := Rn_nx pg260 rfl rfl
theorem sJ21_balanceInsertion_55 : Rn r 260 55 [l0, l1, l2, l3, l4, l5] [vR z0, vR z1] h Q ↔ Rn r 260 57 [l0, l1, l2, l3, l4, some (vR z0)] [vR z1] h Q := Rn_nx pg260 rfl rfl
theorem sJ21_balanceInsertion_57 : Rn r 260 57 [l0, l1, l2, l3, l4, l5] [vR z0] h Q ↔ if z0 = none then Rn r 260 89 [l0, l1, l2, l3, l4, l5] [] h Q else Rn r 260 60 [l0, l1, l2, l3, l4, l5] [] h Q := Rn_if pg260 rfl rfl rfl
theorem sJ21_balanceInsertion_60 : Rn r 260 60 [l0, l1, l2, l3, l4, some (vR z)] [] h Q ↔ Rn r 260 62 [l0, l1, l2, l3, l4, some (vR z)] [vR z] h Q := Rn_nx pg260 rfl rfl
theorem sJ21_balanceInsertion_62 (hk : hK h a0 = 13) : Rn r 260 62 [l0, l1, l2, l3, l4, l5] [vR (some a0)] h Q ↔ Rn r 260 65 [l0, l1, l2, l3, l4, l5] [vI (hI h a0 8)] h Q := Rn_nx pg260 rfl (if_pos ⟨(hk ▸ Nat.le_refl _), (hk ▸ Nat.le_refl _)⟩)
theorem sJ21_balanceInsertion_65 : Rn r 260 65 [l0, l1, l2, l3, l4, l5] [vI x0] h Q ↔ if x0 = 0 then Rn r 260 89 [l0, l1, l2, l3, l4, l5] [] h Q else Rn r 260 68 [l0, l1, l2, l3, l4, l5] [] h Q := Rn_if pg260 rfl rfl rfl
theorem sJ21_balanceInsertion_68 : Rn r 260 68 [l0, l1, l2, l3, l4, some (vR z)] [] h Q ↔ Rn r 260 70 [l0, l1, l2, l3, l4, some (vR z)] [vR z] h Q := Rn_nx pg260 rfl rfl
theorem sJ21_balanceInsertion_70 : Rn r 260 70 [l0, l1, l2, l3, l4, l5] [vR z0] h Q ↔ Rn r 260 71 [l0, l1, l2, l3, l4, l5] [vI 0, vR z0] h Q := Rn_nx pg260 rfl rfl
theorem sJ21_balanceInsertion_71 (hk : hK h a1 = 13) (hf : am_fit 4 x0 = true) : Rn r 260 71 [l0, l1, l2, l3, l4, l5] [vI x0, vR (some a1)] h Q ↔ Rn r 260 74 [l0, l1, l2, l3, l4, l5] [] (putI h a1 8 x0) Q := Rn_nx pg260 rfl ((if_pos ⟨(hk ▸ Nat.le_refl _), (hk ▸ Nat.le_refl _)⟩).trans (if_pos hf))
theorem sJ21_balanceInsertion_74 : Rn r 260 74 [l0, l1, some (vR z), l3, l4, l5] [] h Q ↔ Rn r 260 75 [l0, l1, some (vR z), l3, l4, l5] [vR z] h Q := Rn_nx pg260 rfl rfl
theorem sJ21_balanceInsertion_75 : Rn r 260 75 [l0, l1, l2, l3, l4, l5] [vR z0] h Q ↔ Rn r 260 76 [l0, l1, l2, l3, l4, l5] [vI 0, vR z0] h Q := Rn_nx pg260 rfl rfl
theorem sJ21_balanceInsertion_76 (hk : hK h a1 = 13) (hf : am_fit 4 x0 = true) : Rn r 260 76 [l0, l1, l2, l3, l4, l5] [vI x0, vR (some a1)] h Q ↔ Rn r 260 79 [l0, l1, l2, l3, l4, l5] [] (putI h a1 8 x0) Q := Rn_nx pg260 rfl ((if_pos ⟨(hk ▸ Nat.le_refl _), (hk ▸ Nat.le_refl _)⟩).trans (if_pos hf))
theorem sJ21_balanceInsertion_79 : Rn r 260 79 [l0, l1, l2, some (vR z), l4, l5] [] h Q ↔ Rn r 260 80 [l0, l1, l2, some (vR z), l4, l5] [vR z] h Q := Rn_nx pg260 rfl rfl
theorem sJ21_balanceInsertion_80 : Rn r 260 80 [l0, l1, l2, l3, l4, l5] [vR z0] h Q ↔ Rn r 260 81 [l0, l1, l2, l3, l4, l5] [vI 1, vR z0] h Q := Rn_nx pg260 rfl rfl
theorem sJ21_balanceInsertion_81 (hk : hK h a1 = 13) (hf : am_fit 4 x0 = true) : Rn r 260 81 [l0, l1, l2, l3, l4, l5] [vI x0, vR (some a1)] h Q ↔ Rn r 260 84 [l0, l1, l2, l3, l4, l5] [] (putI h a1 8 x0) Q := Rn_nx pg260 rfl ((if_pos ⟨(hk ▸ Nat.le_refl _), (hk ▸ Nat.le_refl _)⟩).trans (if_pos hf))
theorem sJ21_balanceInsertion_84 : Rn r 260 84 [l0, l1, l2, some (vR z), l4, l5] [] h Q ↔ Rn r 260 85 [l0, l1, l2, some (vR z), l4, l5] [vR z] h Q := Rn_nx pg260 rfl rfl
theorem sJ21_balanceInsertion_85 : Rn r 260 85 [l0, l1, l2, l3, l4, l5] [vR z0] h Q ↔ Rn r 260 86 [l0, some (vR z0), l2, l3, l4, l5] [] h Q := Rn_nx pg260 rfl rfl
theorem sJ21_balanceInsertion_86 : Rn r 260 86 [l0, l1, l2, l3, l4, l5] [] h Q ↔ Rn r 260 5 [l0, l1, l2, l3, l4, l5] [] h Q := Rn_nx pg260 rfl rfl
theorem sJ21_balanceInsertion_89 : Rn r 260 89 [l0, some (vR z), l2, l3, l4, l5] [] h Q ↔ Rn r 260 90 [l0, some (vR z), l2, l3, l4, l5] [vR z] h Q := Rn_nx pg260 rfl rfl
theorem sJ21_balanceInsertion_90 : Rn r 260 90 [l0, l1, some (vR z), l3, l4, l5] [vR z0] h Q ↔ Rn r 260 91 [l0, l1, some (vR z), l3, l4, l5] [vR z, vR z0] h Q := Rn_nx pg260 rfl rfl
theorem sJ21_balanceInsertion_91 (hk : hK h a0 = 13) : Rn r 260 91 [l0, l1, l2, l3, l4, l5] [vR (some a0), vR z1] h Q ↔ Rn r 260 94 [l0, l1, l2, l3, l4, l5] [vR (hR h a0 6), vR z1] h Q := Rn_nx pg260 rfl (if_pos ⟨(hk ▸ Nat.le_refl _), (hk ▸ Nat.le_refl _)⟩)
theorem sJ21_balanceInsertion_94 : Rn r 260 94 [l0, l1, l2, l3, l4, l5] [vR z0, vR z1] h Q ↔ if z1 ≠ z0 then Rn r 260 123 [l0, l1, l2, l3, l4, l5] [] h Q else Rn r 260 97 [l0, l1, l2, l3, l4, l5] [] h Q := Rn_if pg260 rfl rfl rfl
theorem sJ21_balanceInsertion_97 : Rn r 260 97 [some (vR z), l1, l2, l3, l4, l5] [] h Q ↔ Rn r 260 98 [some (vR z), l1, l2, l3, l4, l5] [vR z] h Q := Rn_nx pg260 rfl rfl
theorem sJ21_balanceInsertion_98 : Rn r 260 98 [l0, l1, some (vR z), l3, l4, l5] [vR z0] h Q ↔ Rn r 260 99 [l0, l1, some (vR z), l3, l4, l5] [vR z, vR z0] h Q := Rn_nx pg260 rfl rfl
theorem sJ21_balanceInsertion_99 : Rn r 260 99 [l0, l1, l2, l3, l4, l5] [vR z0, vR z1] h Q ↔ Rn r 260 100 [l0, l1, l2, l3, l4, l5] [vR z0, vR z0, vR z1] h Q := Rn_nx pg260 rfl rfl
theorem sJ21_balanceInsertion_100 : Rn r 260 100 [l0, l1, l2, l3, l4, l5] [vR z0, vR z1, vR z2] h Q ↔ Rn r 260 101 [l0, some (vR z0), l2, l3, l4, l5] [vR z1, vR z2] h Q := Rn_nx pg260 rfl rfl
theorem sJ21_balanceInsertion_101 : Rn r 260 101 [l0, l1, l2, l3, l4, l5] [vR z0, vR z1] h Q ↔ Cl r 294 [vR z1, vR z0] h (Kt r 260 104 [l0, l1, l2, l3, l4, l5] [] Q) := Rn_call pg260 rfl rfl pg294 rfl rfl rfl
theorem sJ21_balanceInsertion_104 : Rn r 260 104 [l0, l1, l2, l3, l4, l5] [vR z0] h Q ↔ Rn r 260 105 [some (vR z0), l1, l2, l3, l4, l5] [] h Q := Rn_nx pg260 rfl rfl
theorem sJ21_balanceInsertion_105 : Rn r 260 105 [l0, some (vR z), l2, l3, l4, l5] [] h Q ↔ Rn r 260 106 [l0, some (vR z), l2, l3, l4, l5] [vR z] h Q := Rn_nx pg260 rfl rfl
theorem sJ21_balanceInsertion_106 (hk : hK h a0 = 13) : Rn r 260 106 [l0, l1, l2, l3, l4, l5] [vR (some a0)] h Q ↔ Rn r 260 109 [l0, l1, l2, l3, l4, l5] [vR (hR h a0 4)] h Q := Rn_nx pg260 rfl (if_pos ⟨(hk ▸ Nat.le_refl _), (hk ▸ Nat.le_refl _)⟩)
theorem sJ21_balanceInsertion_109 : Rn r 260 109 [l0, l1, l2, l3, l4, l5] [vR z0] h Q ↔ Rn r 260 110 [l0, l1, l2, l3, l4, l5] [vR z0, vR z0] h Q := Rn_nx pg260 rfl rfl
theorem sJ21_balanceInsertion_110 : Rn r 260 110 [l0, l1, l2, l3, l4, l5] [vR z0, vR z1] h Q ↔ Rn r 260 111 [l0, l1, some (vR z0), l3, l4, l5] [vR z1] h Q := Rn_nx pg260 rfl rfl
theorem sJ21_balanceInsertion_111 : Rn r 260 111 [l0, l1, l2, l3, l4, l5] [vR z0] h Q ↔ if z0 ≠ none then Rn r 260 118 [l0, l1, l2, l3, l4, l5] [] h Q else Rn r 260 114 [l0, l1, l2, l3, l4, l5] [] h Q := Rn_if pg260 rfl rfl rfl
theorem sJ21_balanceInsertion_114 : Rn r 260 114 [l0, l1, l2, l3, l4, l5] [] h Q ↔ Rn r 260 115 [l0, l1, l2, l3, l4, l5] [vR none] h Q := Rn_nx pg260 rfl rfl
theorem sJ21_balanceInsertion_115 : Rn r 260 115 [l0, l1, l2, l3, l4, l5] [vR z0] h Q ↔ Rn r 260 122 [l0, l1, l2, l3, l4, l5] [vR z0] h Q := Rn_nx pg260 rfl rfl
theorem sJ21_balanceInsertion_118 : Rn r 260 118 [l0, l1, some (vR z), l3, l4, l5] [] h Q ↔ Rn r 260 119 [l0, l1, some (vR z), l3, l4, l5] [vR z] h Q := Rn_nx pg260 rfl rfl
theorem sJ21_balanceInsertion_119 (hk : hK h a0 = 13) : Rn r 260 119 [l0, l1, l2, l3, l4, l5] [vR (some a0)] h Q ↔ Rn r 260 122 [l0, l1, l2, l3, l4, l5] [vR (hR h a0 4)] h Q := Rn_nx pg260 rfl (if_pos ⟨(hk ▸ Nat.le_refl _), (hk ▸ Nat.le_refl _)⟩)
theorem sJ21_balanceInsertion_122 : Rn r 260 122 [l0, l1, l2, l3, l4, l5] [vR z0] h Q ↔ Rn r 260 123 [l0, l1, l2, some (vR z0), l4, l5] [] h Q := Rn_nx pg260 rfl rfl
theorem sJ21_balanceInsertion_123 : Rn r 260 123 [l0, l1, some (vR z), l3, l4, l5] [] h Q ↔ Rn r 260 124 [l0, l1, some (vR z), l3, l4, l5] [vR z] h Q := Rn_nx pg260 rfl rfl
theorem sJ21_balanceInsertion_124 : Rn r 260 124 [l0, l1, l2, l3, l4, l5] [vR z0] h Q ↔ if z0 = none then Rn r 260 5 [l0, l1, l2, l3, l4, l5] [] h Q else Rn r 260 127 [l0, l1, l2, l3, l4, l5] [] h Q := Rn_if pg260 rfl rfl rfl
theorem sJ21_balanceInsertion_127 : Rn r 260 127 [l0, l1, some (vR z), l3, l4, l5] [] h Q ↔ Rn r 260 128 [l0, l1, some (vR z), l3, l4, l5] [vR z] h Q := Rn_nx pg260 rfl rfl
theorem sJ21_balanceInsertion_128 : Rn r 260 128 [l0, l1, l2, l3, l4, l5] [vR z0] h Q ↔ Rn r 260 129 [l0, l1, l2, l3, l4, l5] [vI 0, vR z0] h Q := Rn_nx pg260 rfl rfl
theorem sJ21_balanceInsertion_129 (hk : hK h a1 = 13) (hf : am_fit 4 x0 = true) : Rn r 260 129 [l0, l1, l2, l3, l4, l5] [vI x0, vR (some a1)] h Q ↔ Rn r 260 132 [l0, l1, l2, l3, l4, l5] [] (putI h a1 8 x0) Q := Rn_nx pg260 rfl ((if_pos ⟨(hk ▸ Nat.le_refl _), (hk ▸ Nat.le_refl _)⟩).trans (if_pos hf))
theorem sJ21_balanceInsertion_132 : Rn r 260 132 [l0, l1, l2, some (vR z), l4, l5] [] h Q ↔ Rn r 260 133 [l0, l1, l2, some (vR z), l4, l5] [vR z] h Q := Rn_nx pg260 rfl rfl
theorem sJ21_balanceInsertion_133 : Rn r 260 133 [l0, l1, l2, l3, l4, l5] [vR z0] h Q ↔ if z0 = none then Rn r 260 5 [l0, l1, l2, l3, l4, l5] [] h Q else Rn r 260 136 [l0, l1, l2, l3, l4, l5] [] h Q := Rn_if pg260 rfl rfl rfl
theorem sJ21_balanceInsertion_136 : Rn r 260 136 [l0, l1, l2, some (vR z), l4, l5] [] h Q ↔ Rn r 260 137 [l0, l1, l2, some (vR z), l4, l5] [vR z] h Q := Rn_nx pg260 rfl rfl
theorem sJ21_balanceInsertion_137 : Rn r 260 137 [l0, l1, l2, l3, l4, l5] [vR z0] h Q ↔ Rn r 260 138 [l0, l1, l2, l3, l4, l5] [vI 1, vR z0] h Q := Rn_nx pg260 rfl rfl
theorem sJ21_balanceInsertion_138 (hk : hK h a1 = 13) (hf : am_fit 4 x0 = true) : Rn r 260 138 [l0, l1, l2, l3, l4, l5] [vI x0, vR (some a1)] h Q ↔ Rn r 260 141 [l0, l1, l2, l3, l4, l5] [] (putI h a1 8 x0) Q := Rn_nx pg260 rfl ((if_pos ⟨(hk ▸ Nat.le_refl _), (hk ▸ Nat.le_refl _)⟩).trans (if_pos hf))
theorem sJ21_balanceInsertion_141 : Rn r 260 141 [some (vR z), l1, l2, l3, l4, l5] [] h Q ↔ Rn r 260 142 [some (vR z), l1, l2, l3, l4, l5] [vR z] h Q := Rn_nx pg260 rfl rfl
theorem sJ21_balanceInsertion_142 : Rn r 260 142 [l0, l1, l2, some (vR z), l4, l5] [vR z0] h Q ↔ Rn r 260 143 [l0, l1, l2, some (vR z), l4, l5] [vR z, vR z0] h Q := Rn_nx pg260 rfl rfl
theorem sJ21_balanceInsertion_143 : Rn r 260 143 [l0, l1, l2, l3, l4, l5] [vR z0, vR z1] h Q ↔ Cl r 295 [vR z1, vR z0] h (Kt r 260 146 [l0, l1, l2, l3, l4, l5] [] Q) := Rn_call pg260 rfl rfl pg295 rfl rfl rfl
theorem sJ21_balanceInsertion_146 : Rn r 260 146 [l0, l1, l2, l3, l4, l5] [vR z0] h Q ↔ Rn r 260 147 [some (vR z0), l1, l2, l3, l4, l5] [] h Q := Rn_nx pg260 rfl rfl
theorem sJ21_balanceInsertion_147 : Rn r 260 147 [l0, l1, l2, l3, l4, l5] [] h Q ↔ Rn r 260 5 [l0, l1, l2, l3, l4, l5] [] h Q := Rn_nx pg260 rfl rfl
theorem sJ21_balanceInsertion_150 : Rn r 260 150 [l0, l1, l2, l3, some (vR z), l5] [] h Q ↔ Rn r 260 152 [l0, l1, l2, l3, some (vR z), l5] [vR z] h Q := Rn_nx pg260 rfl rfl
theorem sJ21_balanceInsertion_152 : Rn r 260 152 [l0, l1, l2, l3, l4, l5] [vR z0] h Q ↔ if z0 = none then Rn r 260 184 [l0, l1, l2, l3, l4, l5] [] h Q else Rn r 260 155 [l0, l1, l2, l3, l4, l5] [] h Q := Rn_if pg260 rfl rfl rfl
theorem sJ21_balanceInsertion_155 : Rn r 260 155 [l0, l1, l2, l3, some (vR z), l5] [] h Q ↔ Rn r 260 157 [l0, l1, l2, l3, some (vR z), l5] [vR z] h Q := Rn_nx pg260 rfl rfl
theorem sJ21_balanceInsertion_157 (hk : hK h a0 = 13) : Rn r 260 157 [l0, l1, l2, l3, l4, l5] [vR (some a0)] h Q ↔ Rn r 260 160 [l0, l1, l2, l3, l4, l5] [vI (hI h a0 8)] h Q := Rn_nx pg260 rfl (if_pos ⟨(hk ▸ Nat.le_refl _), (hk ▸ Nat.le_refl _)⟩)
theorem sJ21_balanceInsertion_160 : Rn r 260 160 [l0, l1, l2, l3, l4, l5] [vI x0] h Q ↔ if x0 = 0 then Rn r 260 184 [l0, l1, l2, l3, l4, l5] [] h Q else Rn r 260 163 [l0, l1, l2, l3, l4, l5] [] h Q := Rn_if pg260 rfl rfl rfl
theorem sJ21_balanceInsertion_163 : Rn r 260 163 [l0, l1, l2, l3, some (vR z), l5] [] h Q ↔ Rn r 260 165 [l0, l1, l2, l3, some (vR z), l5] [vR z] h Q := Rn_nx pg260 rfl rfl
theorem sJ21_balanceInsertion_165 : Rn r 260 165 [l0, l1, l2, l3, l4, l5] [vR z0] h Q ↔ Rn r 260 166 [l0, l1, l2, l3, l4, l5] [vI 0, vR z0] h Q := Rn_nx pg260 rfl rfl
theorem sJ21_balanceInsertion_166 (hk : hK h a1 = 13) (hf : am_fit 4 x0 = true) : Rn r 260 166 [l0, l1, l2, l3, l4, l5] [vI x0, vR (some a1)] h Q ↔ Rn r 260 169 [l0, l1, l2, l3, l4, l5] [] (putI h a1 8 x0) Q := Rn_nx pg260 rfl ((if_pos ⟨(hk ▸ Nat.le_refl _), (hk ▸ Nat.le_refl _)⟩).trans (if_pos hf))
theorem sJ21_balanceInsertion_169 : Rn r 260 169 [l0, l1, some (vR z), l3, l4, l5] [] h Q ↔ Rn r 260 170 [l0, l1, some (vR z), l3, l4, l5] [vR z] h Q := Rn_nx pg260 rfl rfl
theorem sJ21_balanceInsertion_170 : Rn r 260 170 [l0, l1, l2, l3, l4, l5] [vR z0] h Q ↔ Rn r 260 171 [l0, l1, l2, l3, l4, l5] [vI 0, vR z0] h Q := Rn_nx pg260 rfl rfl
theorem sJ21_balanceInsertion_171 (hk : hK h a1 = 13) (hf : am_fit 4 x0 = true) : Rn r 260 171 [l0, l1, l2, l3, l4, l5] [vI x0, vR (some a1)] h Q ↔ Rn r 260 174 [l0, l1, l2, l3, l4, l5] [] (putI h a1 8 x0) Q := Rn_nx pg260 rfl ((if_pos ⟨(hk ▸ Nat.le_refl _), (hk ▸ Nat.le_refl _)⟩).trans (if_pos hf))
theorem sJ21_balanceInsertion_174 : Rn r 260 174 [l0, l1, l2, some (vR z), l4, l5] [] h Q ↔ Rn r 260 175 [l0, l1, l2, some (vR z), l4, l5] [vR z] h Q := Rn_nx pg260 rfl rfl
theorem sJ21_balanceInsertion_175 : Rn r 260 175 [l0, l1, l2, l3, l4, l5] [vR z0] h Q ↔ Rn r 260 176 [l0, l1, l2, l3, l4, l5] [vI 1, vR z0] h Q := Rn_nx pg260 rfl rfl
theorem sJ21_balanceInsertion_176 (hk : hK h a1 = 13) (hf : am_fit 4 x0 = true) : Rn r 260 176 [l0, l1, l2, l3, l4, l5] [vI x0, vR (some a1)] h Q ↔ Rn r 260 179 [l0, l1, l2, l3, l4, l5] [] (putI h a1 8 x0) Q := Rn_nx pg260 rfl ((if_pos ⟨(hk ▸ Nat.le_refl _), (hk ▸ Nat.le_refl _)⟩).trans (if_pos hf))
theorem sJ21_balanceInsertion_179 : Rn r 260 179 [l0, l1, l2, some (vR z), l4, l5] [] h Q ↔ Rn r 260 180 [l0, l1, l2, some (vR z), l4, l5] [vR z] h Q := Rn_nx pg260 rfl rfl
theorem sJ21_balanceInsertion_180 : Rn r 260 180 [l0, l1, l2, l3, l4, l5] [vR z0] h Q ↔ Rn r 260 181 [l0, some (vR z0), l2, l3, l4, l5] [] h Q := Rn_nx pg260 rfl rfl
theorem sJ21_balanceInsertion_181 : Rn r 260 181 [l0, l1, l2, l3, l4, l5] [] h Q ↔ Rn r 260 5 [l0, l1, l2, l3, l4, l5] [] h Q := Rn_nx pg260 rfl rfl
theorem sJ21_balanceInsertion_184 : Rn r 260 184 [l0, some (vR z), l2, l3, l4, l5] [] h Q ↔ Rn r 260 185 [l0, some (vR z), l2, l3, l4, l5] [vR z] h Q := Rn_nx pg260 rfl rfl
theorem sJ21_balanceInsertion_185 : Rn r 260 185 [l0, l1, some (vR z), l3, l4, l5] [vR z0] h Q ↔ Rn r 260 186 [l0, l1, some (vR z), l3, l4, l5] [vR z, vR z0] h Q := Rn_nx pg260 rfl rfl
theorem sJ21_balanceInsertion_186 (hk : hK h a0 = 13) : Rn r 260 186 [l0, l1, l2, l3, l4, l5] [vR (some a0), vR z1] h Q ↔ Rn r 260 189 [l0, l1, l2, l3, l4, l5] [vR (hR h a0 5), vR z1] h Q := Rn_nx pg260 rfl (if_pos ⟨(hk ▸ Nat.le_refl _), (hk ▸ Nat.le_refl _)⟩)
theorem sJ21_balanceInsertion_189 : Rn r 260 189 [l0, l1, l2, l3, l4, l5] [vR z0, vR z1] h Q ↔ if z1 ≠ z0 then Rn r 260 218 [l0, l1, l2, l3, l4, l5] [] h Q else Rn r 260 192 [l0, l1, l2, l3, l4, l5] [] h Q := Rn_if pg260 rfl rfl rfl
theorem sJ21_balanceInsertion_192 : Rn r 260 192 [some (vR z), l1, l2, l3, l4, l5] [] h Q ↔ Rn r 260 193 [some (vR z), l1, l2, l3, l4, l5] [vR z] h Q := Rn_nx pg260 rfl rfl
theorem sJ21_balanceInsertion_193 : Rn r 260 193 [l0, l1, some (vR z), l3, l4, l5] [vR z0] h Q ↔ Rn r 260 194 [l0, l1, some (vR z), l3, l4, l5] [vR z, vR z0] h Q := Rn_nx pg260 rfl rfl
theorem sJ21_balanceInsertion_194 : Rn r 260 194 [l0, l1, l2, l3, l4, l5] [vR z0, vR z1] h Q ↔ Rn r 260 195 [l0, l1, l2, l3, l4, l5] [vR z0, vR z0, vR z1] h Q := Rn_nx pg260 rfl rfl
theorem sJ21_balanceInsertion_195 : Rn r 260 195 [l0, l1, l2, l3, l4, l5] [vR z0, vR z1, vR z2] h Q ↔ Rn r 260 196 [l0, some (vR z0), l2, l3, l4, l5] [vR z1, vR z2] h Q := Rn_nx pg260 rfl rfl
theorem sJ21_balanceInsertion_196 : Rn r 260 196 [l0, l1, l2, l3, l4, l5] [vR z0, vR z1] h Q ↔ Cl r 295 [vR z1, vR z0] h (Kt r 260 199 [l0, l1, l2, l3, l4, l5] [] Q) := Rn_call pg260 rfl rfl pg295 rfl rfl rfl
theorem sJ21_balanceInsertion_199 : Rn r 260 199 [l0, l1, l2, l3, l4, l5] [vR z0] h Q ↔ Rn r 260 200 [some (vR z0), l1, l2, l3, l4, l5] [] h Q := Rn_nx pg260 rfl rfl
theorem sJ21_balanceInsertion_200 : Rn r 260 200 [l0, some (vR z), l2, l3, l4, l5] [] h Q ↔ Rn r 260 201 [l0, some (vR z), l2, l3, l4, l5] [vR z] h Q := Rn_nx pg260 rfl rfl
theorem sJ21_balanceInsertion_201 (hk : hK h a0 = 13) : Rn r 260 201 [l0, l1, l2, l3, l4, l5] [vR (some a0)] h Q ↔ Rn r 260 204 [l0, l1, l2, l3, l4, l5] [vR (hR h a0 4)] h Q := Rn_nx pg260 rfl (if_pos ⟨(hk ▸ Nat.le_refl _), (hk ▸ Nat.le_refl _)⟩)
theorem sJ21_balanceInsertion_204 : Rn r 260 204 [l0, l1, l2, l3, l4, l5] [vR z0] h Q ↔ Rn r 260 205 [l0, l1, l2, l3, l4, l5] [vR z0, vR z0] h Q := Rn_nx pg260 rfl rfl
theorem sJ21_balanceInsertion_205 : Rn r 260 205 [l0, l1, l2, l3, l4, l5] [vR z0, vR z1] h Q ↔ Rn r 260 206 [l0, l1, some (vR z0), l3, l4, l5] [vR z1] h Q := Rn_nx pg260 rfl rfl
theorem sJ21_balanceInsertion_206 : Rn r 260 206 [l0, l1, l2, l3, l4, l5] [vR z0] h Q ↔ if z0 ≠ none then Rn r 260 213 [l0, l1, l2, l3, l4, l5] [] h Q else Rn r 260 209 [l0, l1, l2, l3, l4, l5] [] h Q := Rn_if pg260 rfl rfl rfl
theorem sJ21_balanceInsertion_209 : Rn r 260 209 [l0, l1, l2, l3, l4, l5] [] h Q ↔ Rn r 260 210 [l0, l1, l2, l3, l4, l5] [vR none] h Q := Rn_nx pg260 rfl rfl
theorem sJ21_balanceInsertion_210 : Rn r 260 210 [l0, l1, l2, l3, l4, l5] [vR z0] h Q ↔ Rn r 260 217 [l0, l1, l2, l3, l4, l5] [vR z0] h Q := Rn_nx pg260 rfl rfl
theorem sJ21_balanceInsertion_213 : Rn r 260 213 [l0, l1, some (vR z), l3, l4, l5] [] h Q ↔ Rn r 260 214 [l0, l1, some (vR z), l3, l4, l5] [vR z] h Q := Rn_nx pg260 rfl rfl
theorem sJ21_balanceInsertion_214 (hk : hK h a0 = 13) : Rn r 260 214 [l0, l1, l2, l3, l4, l5] [vR (some a0)] h Q ↔ Rn r 260 217 [l0, l1, l2, l3, l4, l5] [vR (hR h a0 4)] h Q := Rn_nx pg260 rfl (if_pos ⟨(hk ▸ Nat.le_refl _), (hk ▸ Nat.le_refl _)⟩)
theorem sJ21_balanceInsertion_217 : Rn r 260 217 [l0, l1, l2, l3, l4, l5] [vR z0] h Q ↔ Rn r 260 218 [l0, l1, l2, some (vR z0), l4, l5] [] h Q := Rn_nx pg260 rfl rfl
theorem sJ21_balanceInsertion_218 : Rn r 260 218 [l0, l1, some (vR z), l3, l4, l5] [] h Q ↔ Rn r 260 219 [l0, l1, some (vR z), l3, l4, l5] [vR z] h Q := Rn_nx pg260 rfl rfl
theorem sJ21_balanceInsertion_219 : Rn r 260 219 [l0, l1, l2, l3, l4, l5] [vR z0] h Q ↔ if z0 = none then Rn r 260 5 [l0, l1, l2, l3, l4, l5] [] h Q else Rn r 260 222 [l0, l1, l2, l3, l4, l5] [] h Q := Rn_if pg260 rfl rfl rfl
theorem sJ21_balanceInsertion_222 : Rn r 260 222 [l0, l1, some (vR z), l3, l4, l5] [] h Q ↔ Rn r 260 223 [l0, l1, some (vR z), l3, l4, l5] [vR z] h Q := Rn_nx pg260 rfl rfl
theorem sJ21_balanceInsertion_223 : Rn r 260 223 [l0, l1, l2, l3, l4, l5] [vR z0] h Q ↔ Rn r 260 224 [l0, l1, l2, l3, l4, l5] [vI 0, vR z0] h Q := Rn_nx pg260 rfl rfl
theorem sJ21_balanceInsertion_224 (hk : hK h a1 = 13) (hf : am_fit 4 x0 = true) : Rn r 260 224 [l0, l1, l2, l3, l4, l5] [vI x0, vR (some a1)] h Q ↔ Rn r 260 227 [l0, l1, l2, l3, l4, l5] [] (putI h a1 8 x0) Q := Rn_nx pg260 rfl ((if_pos ⟨(hk ▸ Nat.le_refl _), (hk ▸ Nat.le_refl _)⟩).trans (if_pos hf))
theorem sJ21_balanceInsertion_227 : Rn r 260 227 [l0, l1, l2, some (vR z), l4, l5] [] h Q ↔ Rn r 260 228 [l0, l1, l2, some (vR z), l4, l5] [vR z] h Q := Rn_nx pg260 rfl rfl
theorem sJ21_balanceInsertion_228 : Rn r 260 228 [l0, l1, l2, l3, l4, l5] [vR z0] h Q ↔ if z0 = none then Rn r 260 5 [l0, l1, l2, l3, l4, l5] [] h Q else Rn r 260 231 [l0, l1, l2, l3, l4, l5] [] h Q := Rn_if pg260 rfl rfl rfl
theorem sJ21_balanceInsertion_231 : Rn r 260 231 [l0, l1, l2, some (vR z), l4, l5] [] h Q ↔ Rn r 260 232 [l0, l1, l2, some (vR z), l4, l5] [vR z] h Q := Rn_nx pg260 rfl rfl
theorem sJ21_balanceInsertion_232 : Rn r 260 232 [l0, l1, l2, l3, l4, l5] [vR z0] h Q ↔ Rn r 260 233 [l0, l1, l2, l3, l4, l5] [vI 1, vR z0] h Q := Rn_nx pg260 rfl rfl
theorem sJ21_balanceInsertion_233 (hk : hK h a1 = 13) (hf : am_fit 4 x0 = true) : Rn r 260 233 [l0, l1, l2, l3, l4, l5] [vI x0, vR (some a1)] h Q ↔ Rn r 260 236 [l0, l1, l2, l3, l4, l5] [] (putI h a1 8 x0) Q := Rn_nx pg260 rfl ((if_pos ⟨(hk ▸ Nat.le_refl _), (hk ▸ Nat.le_refl _)⟩).trans (if_pos hf))
theorem sJ21_balanceInsertion_236 : Rn r 260 236 [some (vR z), l1, l2, l3, l4, l5] [] h Q ↔ Rn r 260 237 [some (vR z), l1, l2, l3, l4, l5] [vR z] h Q := Rn_nx pg260 rfl rfl
theorem sJ21_balanceInsertion_237 : Rn r 260 237 [l0, l1, l2, some (vR z), l4, l5] [vR z0] h Q ↔ Rn r 260 238 [l0, l1, l2, some (vR z), l4, l5] [vR z, vR z0] h Q := Rn_nx pg260 rfl rfl
theorem sJ21_balanceInsertion_238 : Rn r 260 238 [l0, l1, l2, l3, l4, l5] [vR z0, vR z1] h Q ↔ Cl r 294 [vR z1, vR z0] h (Kt r 260 241 [l0, l1, l2, l3, l4, l5] [] Q) := Rn_call pg260 rfl rfl pg294 rfl rfl rfl
theorem sJ21_balanceInsertion_241 : Rn r 260 241 [l0, l1, l2, l3, l4, l5] [vR z0] h Q ↔ Rn r 260 242 [some (vR z0), l1, l2, l3, l4, l5] [] h Q := Rn_nx pg260 rfl rfl
theorem sJ21_balanceInsertion_242 : Rn r 260 242 [l0, l1, l2, l3, l4, l5] [] h Q ↔ Rn r 260 5 [l0, l1, l2, l3, l4, l5] [] h Q := Rn_nx pg260 rfl rfl
/-! 261 java/util/HashMap$TreeNode.moveRootToFront([Ljava/util/HashMap$Node;Ljava/util/HashMap$TreeNode;)V -/
theorem eJ21_moveRootToFront : Cl r 261 [vR z0, vR z1] h Q ↔ Rn r 261 0 [some (vR z0), some (vR z1), none, none, none, none, none] [] h Q := Cl_in pg261 rfl
theorem sJ21_moveRootToFront_0 : Rn r 261 0 [l0, some (vR z), l2, l3, l4, l5, l6] [] h Q ↔ Rn r 261 1 [l0, some (vR z), l2, l3, l4, l5, l6] [vR z] h Q := Rn_nx pg261 rfl rfl
theorem sJ21_moveRootToFront_1 : Rn r 261 1 [l0, l1, l2, l3, l4, l5, l6] [vR z0] h Q ↔ if z0 = none then Rn r 261 123 [l0, l1, l2, l3, l4, l5, l6] [] h Q else Rn r 261 4 [l0, l1, l2, l3, l4, l5, l6] [] h Q := Rn_if pg261 rfl rfl rfl
theorem sJ21_moveRootToFront_4 : Rn r 261 4 [some (vR z), l1, l2, l3, l4, l5, l6] [] h Q ↔ Rn r 261 5 [some (vR z), l1, l2, l3, l4, l5, l6] [vR z] h Q := Rn_nx pg261 rfl rfl
theorem sJ21_moveRootToFront_5 : Rn r 261 5 [l0, l1, l2, l3, l4, l5, l6] [vR z0] h Q ↔ if z0 = none then Rn r 261 123 [l0, l1, l2, l3, l4, l5, l6] [] h Q else Rn r 261 8 [l0, l1, l2, l3, l4, l5, l6] [] h Q := Rn_if pg261 rfl rfl rfl
theorem sJ21_moveRootToFront_8 : Rn r 261 8 [some (vR z), l1, l2, l3, l4, l5, l6] [] h Q ↔ Rn r 261 9 [some (vR z), l1, l2, l3, l4, l5, l6] [vR z] h Q := Rn_nx pg261 rfl rfl
theorem sJ21_moveRootToFront_9 (hk : 40 ≤ hK h a0) (hk2 : hK h a0 ≤ 49) : Rn r 261 9 [l0, l1, l2, l3, l4, l5, l6] [vR (some a0)] h Q ↔ Rn r 261 10 [l0, l1, l2, l3, l4, l5, l6] [vI (nI (hL h a0))] h Q := Rn_nx pg261 rfl (if_pos ⟨hk, hk2⟩)
theorem sJ21_moveRootToFront_10 : Rn r 261 10 [l0, l1, l2, l3, l4, l5, l6] [vI x0] h Q ↔ Rn r 261 11 [l0, l1, l2, l3, l4, l5, l6] [vI x0, vI x0] h Q := Rn_nx pg261 rfl rfl
theorem sJ21_moveRootToFront_11 : Rn r 261 11 [l0, l1, l2, l3, l4, l5, l6] [vI x0, vI x1] h Q ↔ Rn r 261 12 [l0, l1, some (vI x0), l3, l4, l5, l6] [vI x1] h Q := Rn_nx pg261 rfl rfl
theorem sJ21_moveRootToFront_12 : Rn r 261 12 [l0, l1, l2, l3, l4, l5, l6] [vI x0] h Q ↔ if x0 ≤ 0 then Rn r 261 123 [l0, l1, l2, l3, l4, l5, l6] [] h Q else Rn r 261 15 [l0, l1, l2, l3, l4, l5, l6] [] h Q := Rn_if pg261 rfl rfl rfl
theorem sJ21_moveRootToFront_15 : Rn r 261 15 [l0, l1, some (vI x), l3, l4, l5, l6] [] h Q ↔ Rn r 261 16 [l0, l1, some (vI x), l3, l4, l5, l6] [vI x] h Q := Rn_nx pg261 rfl rfl
theorem sJ21_moveRootToFront_16 : Rn r 261 16 [l0, l1, l2, l3, l4, l5, l6] [vI x0] h Q ↔ Rn r 261 17 [l0, l1, l2, l3, l4, l5, l6] [vI 1, vI x0] h Q := Rn_nx pg261 rfl rfl
theorem sJ21_moveRootToFront_17 : Rn r 261 17 [l0, l1, l2, l3, l4, l5, l6] [vI x0, vI x1] h Q ↔ Rn r 261 18 [l0, l1, l2, l3, l4, l5, l6] [vI (x1 - x0)] h Q := Rn_nx pg261 rfl rfl
theorem sJ21_moveRootToFront_18 : Rn r 261 18 [l0, some (vR z), l2, l3, l4, l5, l6] [vI x0] h Q ↔ Rn r 261 19 [l0, some (vR z), l2, l3, l4, l5, l6] [vR z, vI x0] h Q := Rn_nx pg261 rfl rfl
theorem sJ21_moveRootToFront_19 (hk : hK h a0 = 13) : Rn r 261 19 [l0, l1, l2, l3, l4, l5, l6] [vR (some a0), vI x1] h Q ↔ Rn r 261 22 [l0, l1, l2, l3, l4, l5, l6] [vI (hI h a0 0), vI x1] h Q := Rn_nx pg261 rfl (if_pos ⟨(hk ▸ Nat.le_refl _), (hk ▸ Nat.le_refl _)⟩)
theorem sJ21_moveRootToFront_22 : Rn r 261 22 [l0, l1, l2, l3, l4, l5, l6] [vI x0, vI x1] h Q ↔ Rn r 261 23 [l0, l1, l2, l3, l4, l5, l6] [vI (x1 &&& x0)] h Q := Rn_nx pg261 rfl rfl
theorem sJ21_moveRootToFront_23 : Rn r 261 23 [l0, l1, l2, l3, l4, l5, l6] [vI x0] h Q ↔ Rn r 261 24 [l0, l1, l2, some (vI x0), l4, l5, l6] [] h Q := Rn_nx pg261 rfl rfl
theorem sJ21_moveRootToFront_24 : Rn r 261 24 [some (vR z), l1, l2, l3, l4, l5, l6] [] h Q ↔ Rn r 261 25 [some (vR z), l1, l2, l3, l4, l5, l6] [vR z] h Q := Rn_nx pg261 rfl rfl
theorem sJ21_moveRootToFront_25 : Rn r 261 25 [l0, l1, l2, some (vI x), l4, l5, l6] [vR z0] h Q ↔ Rn r 261 26 [l0, l1, l2, some (vI x), l4, l5, l6] [vI x, vR z0] h Q := Rn_nx pg261 rfl rfl
theorem sJ21_moveRootToFront_26 (hk : 46 ≤ hK h a1) (hk2 : hK h a1 ≤ 49) (hx : ¬ (x0 < 0 ∨ hL h a1 ≤ x0.toNatClampNeg)) : Rn r 261 26 [l0, l1, l2, l3, l4, l5, l6] [vI x0, vR (some a1)] h Q ↔ Rn r 261 27 [l0, l1, l2, l3, l4, l5, l6] [vR (hR h a1 x0.toNatClampNeg)] h Q := Rn_nx pg261 rfl ((if_pos ⟨hk, hk2⟩).trans (if_neg hx))
theorem sJ21_moveRootToFront_27_n : Rn r 261 27 [l0, l1, l2, l3, l4, l5, l6] [vR none] h Q ↔ Rn r 261 30 [l0, l1, l2, l3, l4, l5, l6] [vR none] h Q := Rn_nx pg261 rfl rfl
theorem sJ21_moveRootToFront_27 (hk : hK h a0 ∈ [13]) : Rn r 261 27 [l0, l1, l2, l3, l4, l5, l6] [vR (some a0)] h Q ↔ Rn r 261 30 [l0, l1, l2, l3, l4, l5, l6] [vR (some a0)] h Q := Rn_nx pg261 rfl (if_pos hk)
theorem sJ21_moveRootToFront_30 : Rn r 261 30 [l0, l1, l2, l3, l4, l5, l6] [vR z0] h Q ↔ Rn r 261 32 [l0, l1, l2, l3, some (vR z0), l5, l6] [] h Q := Rn_nx pg261 rfl rfl
theorem sJ21_moveRootToFront_32 : Rn r 261 32 [l0, some (vR z), l2, l3, l4, l5, l6] [] h Q ↔ Rn r 261 33 [l0, some (vR z), l2, l3, l4, l5, l6] [vR z] h Q := Rn_nx pg261 rfl rfl
theorem sJ21_moveRootToFront_33 : Rn r 261 33 [l0, l1, l2, l3, some (vR z), l5, l6] [vR z0] h Q ↔ Rn r 261 35 [l0, l1, l2, l3, some (vR z), l5, l6] [vR z, vR z0] h Q := Rn_nx pg261 rfl rfl
theorem sJ21_moveRootToFront_35 : Rn r 261 35 [l0, l1, l2, l3, l4, l5, l6] [vR z0, vR z1] h Q ↔ if z1 = z0 then Rn r 261 102 [l0, l1, l2, l3, l4, l5, l6] [] h Q else Rn r 261 38 [l0, l1, l2, l3, l4, l5, l6] [] h Q := Rn_if pg261 rfl rfl rfl
theorem sJ21_moveRootToFront_38 : Rn r 261 38 [some (vR z), l1, l2, l3, l4, l5, l6] [] h Q ↔ Rn r 261 39 [some (vR z), l1, l2, l3, l4, l5, l6] [vR z] h Q := Rn_nx pg261 rfl rfl
theorem sJ21_moveRootToFront_39 : Rn r 261 39 [l0, l1, l2, some (vI x), l4, l5, l6] [vR z0] h Q ↔ Rn r 261 40 [l0, l1, l2, some (vI x), l4, l5, l6] [vI x, vR z0] h Q := Rn_nx pg261 rfl rfl
theorem sJ21_moveRootToFront_40 : Rn r 261 40 [l0, some (vR z), l2, l3, l4, l5, l6] [vI x0, vR z1] h Q ↔ Rn r 261 41 [l0, some (vR z), l2, l3, l4, l5, l6] [vR z, vI x0, vR z1] h Q := Rn_nx pg261 rfl rfl
theorem sJ21_moveRootToFront_41_n (hk : hK h a2 = 46 ∨ hK h a2 = 48) (hx : ¬ (x1 < 0 ∨ hL h a2 ≤ x1.toNatClampNeg)) : Rn r 261 41 [l0, l1, l2, l3, l4, l5, l6] [vR none, vI x1, vR (some a2)] h Q ↔ Rn r 261 42 [l0, l1, l2, l3, l4, l5, l6] [] (putR h a2 x1.toNatClampNeg none) Q := Rn_nx pg261 rfl ((if_pos hk).trans (if_neg hx))
theorem sJ21_moveRootToFront_41 (hk : (hK h a2 = 46 ∧ 0 < hK h a0 ∧ hK h a0 < 40) ∨ (hK h a2 = 48 ∧ 12 ≤ hK h a0 ∧ hK h a0 ≤ 13)) (hx : ¬ (x1 < 0 ∨ hL h a2 ≤ x1.toNatClampNeg)) : Rn r 261 41 [l0, l1, l2, l3, l4, l5, l6] [vR (some a0), vI x1, vR (some a2)] h Q ↔ Rn r 261 42 [l0, l1, l2, l3, l4, l5, l6] [] (putR h a2 x1.toNatClampNeg (some a0)) Q := Rn_nx pg261 rfl ((if_pos hk).trans (if_neg hx))
theorem sJ21_moveRootToFront_42 : Rn r 261 42 [l0, some (vR z), l2, l3, l4, l5, l6] [] h Q ↔ Rn r 261 43 [l0, some (vR z), l2, l3, l4, l5, l6] [vR z] h Q := Rn_nx pg261 rfl rfl
theorem sJ21_moveRootToFront_43 (hk : hK h a0 = 13) : Rn r 261 43 [l0, l1, l2, l3, l4, l5, l6] [vR (some a0)] h Q ↔ Rn r 261 46 [l0, l1, l2, l3, l4, l5, l6] [vR (hR h a0 7)] h Q := Rn_nx pg261 rfl (if_pos ⟨(hk ▸ Nat.le_refl _), (hk ▸ Nat.le_refl _)⟩)
theorem sJ21_moveRootToFront_46 : Rn r 261 46 [l0, l1, l2, l3, l4, l5, l6] [vR z0] h Q ↔ Rn r 261 48 [l0, l1, l2, l3, l4, l5, some (vR z0)] [] h Q := Rn_nx pg261 rfl rfl
theorem sJ21_moveRootToFront_48 : Rn r 261 48 [l0, some (vR z), l2, l3, l4, l5, l6] [] h Q ↔ Rn r 261 49 [l0, some (vR z), l2, l3, l4, l5, l6] [vR z] h Q := Rn_nx pg261 rfl rfl
theorem sJ21_moveRootToFront_49 (hk : hK h a0 = 13) : Rn r 261 49 [l0, l1, l2, l3, l4, l5, l6] [vR (some a0)] h Q ↔ Rn r 261 52 [l0, l1, l2, l3, l4, l5, l6] [vR (hR h a0 3)] h Q := Rn_nx pg261 rfl (if_pos ⟨(hk ▸ Nat.le_refl _), (hk ▸ Nat.le_refl _)⟩)
theorem sJ21_moveRootToFront_52 : Rn r 261 52 [l0, l1, l2, l3, l4, l5, l6] [vR z0] h Q ↔ Rn r 261 53 [l0, l1, l2, l3, l4, l5, l6] [vR z0, vR z0] h Q := Rn_nx pg261 rfl rfl
theorem sJ21_moveRootToFront_53 : Rn r 261 53 [l0, l1, l2, l3, l4, l5, l6] [vR z0, vR z1] h Q ↔ Rn r 261 55 [l0, l1, l2, l3, l4, some (vR z0), l6] [vR z1] h Q := Rn_nx pg261 rfl rfl
theorem sJ21_moveRootToFront_55 : Rn r 261 55 [l0, l1, l2, l3, l4, l5, l6] [vR z0] h Q ↔ if z0 = none then Rn r 261 68 [l0, l1, l2, l3, l4, l5, l6] [] h Q else Rn r 261 58 [l0, l1, l2, l3, l4, l5, l6] [] h Q := Rn_if pg261 rfl rfl rfl
theorem sJ21_moveRootToFront_58 : Rn r 261 58 [l0, l1, l2, l3, l4, some (vR z), l6] [] h Q ↔ Rn r 261 60 [l0, l1, l2, l3, l4, some (vR z), l6] [vR z] h Q := Rn_nx pg261 rfl rfl
theorem sJ21_moveRootToFront_60_n : Rn r 261 60 [l0, l1, l2, l3, l4, l5, l6] [vR none] h Q ↔ Rn r 261 63 [l0, l1, l2, l3, l4, l5, l6] [vR none] h Q := Rn_nx pg261 rfl rfl
theorem sJ21_moveRootToFront_60 (hk : hK h a0 ∈ [13]) : Rn r 261 60 [l0, l1, l2, l3, l4, l5, l6] [vR (some a0)] h Q ↔ Rn r 261 63 [l0, l1, l2, l3, l4, l5, l6] [vR (some a0)] h Q := Rn_nx pg261 rfl (if_pos hk)
theorem sJ21_moveRootToFront_63 : Rn r 261 63 [l0, l1, l2, l3, l4, l5, some (vR z)] [vR z0] h Q ↔ Rn r 261 65 [l0, l1, l2, l3, l4, l5, some (vR z)] [vR z, vR z0] h Q := Rn_nx pg261 rfl rfl
theorem sJ21_moveRootToFront_65 (hk : hK h a1 = 13) : Rn r 261 65 [l0, l1, l2, l3, l4, l5, l6] [vR z0, vR (some a1)] h Q ↔ Rn r 261 68 [l0, l1, l2, l3, l4, l5, l6] [] (putR h a1 7 z0) Q := Rn_nx pg261 rfl ((if_pos ⟨(hk ▸ Nat.le_refl _), (hk ▸ Nat.le_refl _)⟩).trans rfl)
theorem sJ21_moveRootToFront_68 : Rn r 261 68 [l0, l1, l2, l3, l4, l5, some (vR z)] [] h Q ↔ Rn r 261 70 [l0, l1, l2, l3, l4, l5, some (vR z)] [vR z] h Q := Rn_nx pg261 rfl rfl
theorem sJ21_moveRootToFront_70 : Rn r 261 70 [l0, l1, l2, l3, l4, l5, l6] [vR z0] h Q ↔ if z0 = none then Rn r 261 80 [l0, l1, l2, l3, l4, l5, l6] [] h Q else Rn r 261 73 [l0, l1, l2, l3, l4, l5, l6] [] h Q := Rn_if pg261 rfl rfl rfl
theorem sJ21_moveRootToFront_73 : Rn r 261 73 [l0, l1, l2, l3, l4, l5, some (vR z)] [] h Q ↔ Rn r 261 75 [l0, l1, l2, l3, l4, l5, some (vR z)] [vR z] h Q := Rn_nx pg261 rfl rfl
theorem sJ21_moveRootToFront_75 : Rn r 261 75 [l0, l1, l2, l3, l4, some (vR z), l6] [vR z0] h Q ↔ Rn r 261 77 [l0, l1, l2, l3, l4, some (vR z), l6] [vR z, vR z0] h Q := Rn_nx pg261 rfl rfl
theorem sJ21_moveRootToFront_77 (hk : hK h a1 = 13) : Rn r 261 77 [l0, l1, l2, l3, l4, l5, l6] [vR z0, vR (some a1)] h Q ↔ Rn r 261 80 [l0, l1, l2, l3, l4, l5, l6] [] (putR h a1 3 z0) Q := Rn_nx pg261 rfl ((if_pos ⟨(hk ▸ Nat.le_refl _), (hk ▸ Nat.le_refl _)⟩).trans rfl)
theorem sJ21_moveRootToFront_80 : Rn r 261 80 [l0, l1, l2, l3, some (vR z), l5, l6] [] h Q ↔ Rn r 261 82 [l0, l1, l2, l3, some (vR z), l5, l6] [vR z] h Q := Rn_nx pg261 rfl rfl
theorem sJ21_moveRootToFront_82 : Rn r 261 82 [l0, l1, l2, l3, l4, l5, l6] [vR z0] h Q ↔ if z0 = none then Rn r 261 91 [l0, l1, l2, l3, l4, l5, l6] [] h Q else Rn r 261 85 [l0, l1, l2, l3, l4, l5, l6] [] h Q := Rn_if pg261 rfl rfl rfl
theorem sJ21_moveRootToFront_85 : Rn r 261 85 [l0, l1, l2, l3, some (vR z), l5, l6] [] h Q ↔ Rn r 261 87 [l0, l1, l2, l3, some (vR z), l5, l6] [vR z] h Q := Rn_nx pg261 rfl rfl
theorem sJ21_moveRootToFront_87 : Rn r 261 87 [l0, some (vR z), l2, l3, l4, l5, l6] [vR z0] h Q ↔ Rn r 261 88 [l0, some (vR z), l2, l3, l4, l5, l6] [vR z, vR z0] h Q := Rn_nx pg261 rfl rfl
theorem sJ21_moveRootToFront_88 (hk : hK h a1 = 13) : Rn r 261 88 [l0, l1, l2, l3, l4, l5, l6] [vR z0, vR (some a1)] h Q ↔ Rn r 261 91 [l0, l1, l2, l3, l4, l5, l6] [] (putR h a1 7 z0) Q := Rn_nx pg261 rfl ((if_pos ⟨(hk ▸ Nat.le_refl _), (hk ▸ Nat.le_refl _)⟩).trans rfl)
theorem sJ21_moveRootToFront_91 : Rn r 261 91 [l0, some (vR z), l2, l3, l4, l5, l6] [] h Q ↔ Rn r 261 92 [l0, some (vR z), l2, l3, l4, l5, l6] [vR z] h Q := Rn_nx pg261 rfl rfl
theorem sJ21_moveRootToFront_92 : Rn r 261 92 [l0, l1, l2, l3, some (vR z), l5, l6] [vR z0] h Q ↔ Rn r 261 94 [l0, l1, l2, l3, some (vR z), l5, l6] [vR z, vR z0] h Q := Rn_nx pg261 rfl rfl
theorem sJ21_moveRootToFront_94 (hk : hK h a1 = 13) : Rn r 261 94 [l0, l1, l2, l3, l4, l5, l6] [vR z0, vR (some a1)] h Q ↔ Rn r 261 97 [l0, l1, l2, l3, l4, l5, l6] [] (putR h a1 3 z0) Q := Rn_nx pg261 rfl ((if_pos ⟨(hk ▸ Nat.le_refl _), (hk ▸ Nat.le_refl _)⟩).trans rfl)
theorem sJ21_moveRootToFront_97 : Rn r 261 97 [l0, some (vR z), l2, l3, l4, l5, l6] [] h Q ↔ Rn r 261 98 [l0, some (vR z), l2, l3, l4, l5, l6] [vR z] h Q := Rn_nx pg261 rfl rfl
theorem sJ21_moveRootToFront_98 : Rn r 261 98 [l0, l1, l2, l3, l4, l5, l6] [vR z0] h Q ↔ Rn r 261 99 [l0, l1, l2, l3, l4, l5, l6] [vR none, vR z0] h Q := Rn_nx pg261 rfl rfl
theorem sJ21_moveRootToFront_99 (hk : hK h a1 = 13) : Rn r 261 99 [l0, l1, l2, l3, l4, l5, l6] [vR z0, vR (some a1)] h Q ↔ Rn r 261 102 [l0, l1, l2, l3, l4, l5, l6] [] (putR h a1 7 z0) Q := Rn_nx pg261 rfl ((if_pos ⟨(hk ▸ Nat.le_refl _), (hk ▸ Nat.le_refl _)⟩).trans rfl)
theorem sJ21_moveRootToFront_102 : Rn r 261 102 [l0, l1, l2, l3, l4, l5, l6] [] h Q ↔ Rn r 261 105 [l0, l1, l2, l3, l4, l5, l6] [vI 1] h Q := Rn_nx pg261 rfl rfl
theorem sJ21_moveRootToFront_105 : Rn r 261 105 [l0, l1, l2, l3, l4, l5, l6] [vI x0] h Q ↔ if x0 ≠ 0 then Rn r 261 123 [l0, l1, l2, l3, l4, l5, l6] [] h Q else Rn r 261 108 [l0, l1, l2, l3, l4, l5, l6] [] h Q := Rn_if pg261 rfl rfl rfl
theorem sJ21_moveRootToFront_108 : Rn r 261 108 [l0, some (vR z), l2, l3, l4, l5, l6] [] h Q ↔ Rn r 261 109 [l0, some (vR z), l2, l3, l4, l5, l6] [vR z] h Q := Rn_nx pg261 rfl rfl
theorem sJ21_moveRootToFront_123 : Rn r 261 123 [l0, l1, l2, l3, l4, l5, l6] [] h Q ↔ Q (Sum.inl none) h := Rn_end pg261 rfl rfl
/-! 262 java/util/HashMap.replacementTreeNode(Ljava/util/HashMap$Node;Ljava/util/HashMap$Node;)Ljava/util/HashMap$TreeNode; -/
theorem eJ7_replacementTreeNode : Cl r 262 [vR z0, vR z1, vR z2] h Q ↔ Rn r 262 0 [some (vR z0), some (vR z1), some (vR z2)] [] h Q := Cl_in pg262 rfl
theorem sJ7_replacementTreeNode_0 : Rn r 262 0 [l0, l1, l2] [] h Q ↔ Rn r 262 3 [l0, l1, l2] [vR (some (hN h))] (newC h 13 11) Q := Rn_nx pg262 rfl rfl
theorem sJ7_replacementTreeNode_3 : Rn r 262 3 [l0, l1, l2] [vR z0] h Q ↔ Rn r 262 4 [l0, l1, l2] [vR z0, vR z0] h Q := Rn_nx pg262 rfl rfl
theorem sJ7_replacementTreeNode_4 : Rn r 262 4 [l0, some (vR z), l2] [vR z0, vR z1] h Q ↔ Rn r 262 5 [l0, some (vR z), l2] [vR z, vR z0, vR z1] h Q := Rn_nx pg262 rfl rfl
theorem sJ7_replacementTreeNode_5 (hk : 12 ≤ hK h a0) (hk2 : hK h a0 ≤ 13) : Rn r 262 5 [l0, l1, l2] [vR (some a0), vR z1, vR z2] h Q ↔ Rn r 262 8 [l0, l1, l2] [vI (hI h a0 0), vR z1, vR z2] h Q := Rn_nx pg262 rfl (if_pos ⟨hk, hk2⟩)
theorem sJ7_replacementTreeNode_8 : Rn r 262 8 [l0, some (vR z), l2] [vI x0, vR z1, vR z2] h Q ↔ Rn r 262 9 [l0, some (vR z), l2] [vR z, vI x0, vR z1, vR z2] h Q := Rn_nx pg262 rfl rfl
theorem sJ7_replacementTreeNode_9 (hk : 12 ≤ hK h a0) (hk2 : hK h a0 ≤ 13) : Rn r 262 9 [l0, l1, l2] [vR (some a0), vI x1, vR z2, vR z3] h Q ↔ Rn r 262 12 [l0, l1, l2] [vR (hR h a0 1), vI x1, vR z2, vR z3] h Q := Rn_nx pg262 rfl (if_pos ⟨hk, hk2⟩)
theorem sJ7_replacementTreeNode_12 : Rn r 262 12 [l0, some (vR z), l2] [vR z0, vI x1, vR z2, vR z3] h Q ↔ Rn r 262 13 [l0, some (vR z), l2] [vR z, vR z0, vI x1, vR z2, vR z3] h Q := Rn_nx pg262 rfl rfl
theorem sJ7_replacementTreeNode_13 (hk : 12 ≤ hK h a0) (hk2 : hK h a0 ≤ 13) : Rn r 262 13 [l0, l1, l2] [vR (some a0), vR z1, vI x2, vR z3, vR z4] h Q ↔ Rn r 262 16 [l0, l1, l2] [vR (hR h a0 2), vR z1, vI x2, vR z3, vR z4] h Q := Rn_nx pg262 rfl (if_pos ⟨hk, hk2⟩)
theorem sJ7_replacementTreeNode_16 : Rn r 262 16 [l0, l1, some (vR z)] [vR z0, vR z1, vI x2, vR z3, vR z4] h Q ↔ Rn r 262 17 [l0, l1, some (vR z)] [vR z, vR z0, vR z1, vI x2, vR z3, vR z4] h Q := Rn_nx pg262 rfl rfl
theorem sJ7_replacementTreeNode_17 (hk : 0 < hK h a4) (hk2 : hK h a4 < 40) : Rn r 262 17 [l0, l1, l2] [vR z0, vR z1, vR z2, vI x3, vR (some a4), vR z5] h Q ↔ Cl r 293 [vR (some a4), vI x3, vR z2, vR z1, vR z0] h (Kt r 262 20 [l0, l1, l2] [vR z5] Q) := Rn_call pg262 rfl (if_pos ⟨hk, hk2⟩) pg293 rfl rfl rfl
theorem sJ7_replacementTreeNode_20 : Rn r 262 20 [l0, l1, l2] [vR z0] h Q ↔ Q (Sum.inl (some (vR z0))) h := Rn_end pg262 rfl rfl
/-! 263 java/util/HashMap$TreeNode.treeify([Ljava/util/HashMap$Node;)V -/
theorem eJ21_treeify : Cl r 263 [vR z0, vR z1] h Q ↔ Rn r 263 0 [some (vR z0), some (vR z1), none, none, none, none, none, none, none, none, none, none, none] [] h Q := Cl_in pg263 rfl
theorem sJ21_treeify_0 : Rn r 263 0 [l0, l1, l2, l3, l4, l5, l6, l7, l8, l9, l10, l11, l12] [] h Q ↔ Rn r 263 1 [l0, l1, l2, l3, l4, l5, l6, l7, l8, l9, l10, l11, l12] [vR none] h Q := Rn_nx pg263 rfl rfl
theorem sJ21_treeify_1 : Rn r 263 1 [l0, l1, l2, l3, l4, l5, l6, l7, l8, l9, l10, l11, l12] [vR z0] h Q ↔ Rn r 263 2 [l0, l1, some (vR z0), l3, l4, l5, l6, l7, l8, l9, l10, l11, l12] [] h Q := Rn_nx pg263 rfl rfl
theorem sJ21_treeify_2 : Rn r 263 2 [some (vR z), l1, l2, l3, l4, l5, l6, l7, l8, l9, l10, l11, l12] [] h Q ↔ Rn r 263 3 [some (vR z), l1, l2, l3, l4, l5, l6, l7, l8, l9, l10, l11, l12] [vR z] h Q := Rn_nx pg263 rfl rfl
theorem sJ21_treeify_3 : Rn r 263 3 [l0, l1, l2, l3, l4, l5, l6, l7, l8, l9, l10, l11, l12] [vR z0] h Q ↔ Rn r 263 4 [l0, l1, l2, some (vR z0), l4, l5, l6, l7, l8, l9, l10, l11, l12] [] h Q := Rn_nx pg263 rfl rfl
theorem sJ21_treeify_4 : Rn r 263 4 [l0, l1, l2, some (vR z), l4, l5, l6, l7, l8, l9, l10, l11, l12] [] h Q ↔ Rn r 263 5 [l0, l1, l2, some (vR z), l4, l5, l6, l7, l8, l9, l10, l11, l12] [vR z] h Q := Rn_nx pg263 rfl rfl
theorem sJ21_treeify_5 : Rn r 263 5 [l0, l1, l2, l3, l4, l5, l6, l7, l8, l9, l10, l11, l12] [vR z0] h Q ↔ if z0 = none then Rn r 263 215 [l0, l1, l2, l3, l4, l5, l6, l7, l8, l9, l10, l11, l12] [] h Q else Rn r 263 8 [l0, l1, l2, l3, l4, l5, l6, l7, l8, l9, l10, l11, l12] [] h Q := Rn_if pg263 rfl rfl rfl
theorem sJ21_treeify_8 : Rn r 263 8 [l0, l1, l2, some (vR z), l4, l5, l6, l7, l8, l9, l10, l11, l12] [] h Q ↔ Rn r 263 9 [l0, l1, l2, some (vR z), l4, l5, l6, l7, l8, l9, l10, l11, l12] [vR z] h Q := Rn_nx pg263 rfl rfl
theorem sJ21_treeify_9 (hk : hK h a0 = 13) : Rn r 263 9 [l0, l1, l2, l3, l4, l5, l6, l7, l8, l9, l10, l11, l12] [vR (some a0)] h Q ↔ Rn r 263 12 [l0, l1, l2, l3, l4, l5, l6, l7, l8, l9, l10, l11, l12] [vR (hR h a0 3)] h Q := Rn_nx pg263 rfl (if_pos ⟨(hk ▸ Nat.le_refl _), (hk ▸ Nat.le_refl _)⟩)
theorem sJ21_treeify_12_n : Rn r 263 12 [l0, l1, l2, l3, l4, l5, l6, l7, l8, l9, l10, l11, l12] [vR none] h Q ↔ Rn r 263 15 [l0, l1, l2, l3, l4, l5, l6, l7, l8, l9, l10, l11, l12] [vR none] h Q := Rn_nx pg263 rfl rfl
theorem sJ21_treeify_12 (hk : hK h a0 ∈ [13]) : Rn r 263 12 [l0, l1, l2, l3, l4, l5, l6, l7, l8, l9, l10, l11, l12] [vR (some a0)] h Q ↔ Rn r 263 15 [l0, l1, l2, l3, l4, l5, l6, l7, l8, l9, l10, l11, l12] [vR (some a0)] h Q := Rn_nx pg263 rfl (if_pos hk)
theorem sJ21_treeify_15 : Rn r 263 15 [l0, l1, l2, l3, l4, l5, l6, l7, l8, l9, l10, l11, l12] [vR z0] h Q ↔ Rn r 263 17 [l0, l1, l2, l3, some (vR z0), l5, l6, l7, l8, l9, l10, l11, l12] [] h Q := Rn_nx pg263 rfl rfl
theorem sJ21_treeify_17 : Rn r 263 17 [l0, l1, l2, some (vR z), l4, l5, l6, l7, l8, l9, l10, l11, l12] [] h Q ↔ Rn r 263 18 [l0, l1, l2, some (vR z), l4, l5, l6, l7, l8, l9, l10, l11, l12] [vR z] h Q := Rn_nx pg263 rfl rfl
theorem sJ21_treeify_18 : Rn r 263 18 [l0, l1, l2, some (vR z), l4, l5, l6, l7, l8, l9, l10, l11, l12] [vR z0] h Q ↔ Rn r 263 19 [l0, l1, l2, some (vR z), l4, l5, l6, l7, l8, l9, l10, l11, l12] [vR z, vR z0] h Q := Rn_nx pg263 rfl rfl
theorem sJ21_treeify_19 : Rn r 263 19 [l0, l1, l2, l3, l4, l5, l6, l7, l8, l9, l10, l11, l12] [vR z0, vR z1] h Q ↔ Rn r 263 20 [l0, l1, l2, l3, l4, l5, l6, l7, l8, l9, l10, l11, l12] [vR none, vR z0, vR z1] h Q := Rn_nx pg263 rfl rfl
theorem sJ21_treeify_20 : Rn r 263 20 [l0, l1, l2, l3, l4, l5, l6, l7, l8, l9, l10, l11, l12] [vR z0, vR z1, vR z2] h Q ↔ Rn r 263 21 [l0, l1, l2, l3, l4, l5, l6, l7, l8, l9, l10, l11, l12] [vR z0, vR z1, vR z0, vR z2] h Q := Rn_nx pg263 rfl rfl
theorem sJ21_treeify_21 (hk : hK h a1 = 13) : Rn r 263 21 [l0, l1, l2, l3, l4, l5, l6, l7, l8, l9, l10, l11, l12] [vR z0, vR (some a1), vR z2, vR z3] h Q ↔ Rn r 263 24 [l0, l1, l2, l3, l4, l5, l6, l7, l8, l9, l10, l11, l12] [vR z2, vR z3] (putR h a1 6 z0) Q := Rn_nx pg263 rfl ((if_pos ⟨(hk ▸ Nat.le_refl _), (hk ▸ Nat.le_refl _)⟩).trans rfl)
theorem sJ21_treeify_24 (hk : hK h a1 = 13) : Rn r 263 24 [l0, l1, l2, l3, l4, l5, l6, l7, l8, l9, l10, l11, l12] [vR z0, vR (some a1)] h Q ↔ Rn r 263 27 [l0, l1, l2, l3, l4, l5, l6, l7, l8, l9, l10, l11, l12] [] (putR h a1 5 z0) Q := Rn_nx pg263 rfl ((if_pos ⟨(hk ▸ Nat.le_refl _), (hk ▸ Nat.le_refl _)⟩).trans rfl)
theorem sJ21_treeify_27 : Rn r 263 27 [l0, l1, some (vR z), l3, l4, l5, l6, l7, l8, l9, l10, l11, l12] [] h Q ↔ Rn r 263 28 [l0, l1, some (vR z), l3, l4, l5, l6, l7, l8, l9, l10, l11, l12] [vR z] h Q := Rn_nx pg263 rfl rfl
theorem sJ21_treeify_28 : Rn r 263 28 [l0, l1, l2, l3, l4, l5, l6, l7, l8, l9, l10, l11, l12] [vR z0] h Q ↔ if z0 ≠ none then Rn r 263 46 [l0, l1, l2, l3, l4, l5, l6, l7, l8, l9, l10, l11, l12] [] h Q else Rn r 263 31 [l0, l1, l2, l3, l4, l5, l6, l7, l8, l9, l10, l11, l12] [] h Q := Rn_if pg263 rfl rfl rfl
theorem sJ21_treeify_31 : Rn r 263 31 [l0, l1, l2, some (vR z), l4, l5, l6, l7, l8, l9, l10, l11, l12] [] h Q ↔ Rn r 263 32 [l0, l1, l2, some (vR z), l4, l5, l6, l7, l8, l9, l10, l11, l12] [vR z] h Q := Rn_nx pg263 rfl rfl
theorem sJ21_treeify_32 : Rn r 263 32 [l0, l1, l2, l3, l4, l5, l6, l7, l8, l9, l10, l11, l12] [vR z0] h Q ↔ Rn r 263 33 [l0, l1, l2, l3, l4, l5, l6, l7, l8, l9, l10, l11, l12] [vR none, vR z0] h Q := Rn_nx pg263 rfl rfl
theorem sJ21_treeify_33 (hk : hK h a1 = 13) : Rn r 263 33 [l0, l1, l2, l3, l4, l5, l6, l7, l8, l9, l10, l11, l12] [vR z0, vR (some a1)] h Q ↔ Rn r 263 36 [l0, l1, l2, l3, l4, l5, l6, l7, l8, l9, l10, l11, l12] [] (putR h a1 4 z0) Q := Rn_nx pg263 rfl ((if_pos ⟨(hk ▸ Nat.le_refl _), (hk ▸ Nat.le_refl _)⟩).trans rfl)
theorem sJ21_treeify_36 : Rn r 263 36 [l0, l1, l2, some (vR z), l4, l5, l6, l7, l8, l9, l10, l11, l12] [] h Q ↔ Rn r 263 37 [l0, l1, l2, some (vR z), l4, l5, l6, l7, l8, l9, l10, l11, l12] [vR z] h Q := Rn_nx pg263 rfl rfl
theorem sJ21_treeify_37 : Rn r 263 37 [l0, l1, l2, l3, l4, l5, l6, l7, l8, l9, l10, l11, l12] [vR z0] h Q ↔ Rn r 263 38 [l0, l1, l2, l3, l4, l5, l6, l7, l8, l9, l10, l11, l12] [vI 0, vR z0] h Q := Rn_nx pg263 rfl rfl
theorem sJ21_treeify_38 (hk : hK h a1 = 13) (hf : am_fit 4 x0 = true) : Rn r 263 38 [l0, l1, l2, l3, l4, l5, l6, l7, l8, l9, l10, l11, l12] [vI x0, vR (some a1)] h Q ↔ Rn r 263 41 [l0, l1, l2, l3, l4, l5, l6, l7, l8, l9, l10, l11, l12] [] (putI h a1 8 x0) Q := Rn_nx pg263 rfl ((if_pos ⟨(hk ▸ Nat.le_refl _), (hk ▸ Nat.le_refl _)⟩).trans (if_pos hf))
theorem sJ21_treeify_41 : Rn r 263 41 [l0, l1, l2, some (vR z), l4, l5, l6, l7, l8, l9, l10, l11, l12] [] h Q ↔ Rn r 263 42 [l0, l1, l2, some (vR z), l4, l5, l6, l7, l8, l9, l10, l11, l12] [vR z] h Q := Rn_nx pg263 rfl rfl
theorem sJ21_treeify_42 : Rn r 263 42 [l0, l1, l2, l3, l4, l5, l6, l7, l8, l9, l10, l11, l12] [vR z0] h Q ↔ Rn r 263 43 [l0, l1, some (vR z0), l3, l4, l5, l6, l7, l8, l9, l10, l11, l12] [] h Q := Rn_nx pg263 rfl rfl
theorem sJ21_treeify_43 : Rn r 263 43 [l0, l1, l2, l3, l4, l5, l6, l7, l8, l9, l10, l11, l12] [] h Q ↔ Rn r 263 209 [l0, l1, l2, l3, l4, l5, l6, l7, l8, l9, l10, l11, l12] [] h Q := Rn_nx pg263 rfl rfl
theorem sJ21_treeify_46 : Rn r 263 46 [l0, l1, l2, some (vR z), l4, l5, l6, l7, l8, l9, l10, l11, l12] [] h Q ↔ Rn r 263 47 [l0, l1, l2, some (vR z), l4, l5, l6, l7, l8, l9, l10, l11, l12] [vR z] h Q := Rn_nx pg263 rfl rfl
theorem sJ21_treeify_47 (hk : hK h a0 = 13) : Rn r 263 47 [l0, l1, l2, l3, l4, l5, l6, l7, l8, l9, l10, l11, l12] [vR (some a0)] h Q ↔ Rn r 263 50 [l0, l1, l2, l3, l4, l5, l6, l7, l8, l9, l10, l11, l12] [vR (hR h a0 1)] h Q := Rn_nx pg263 rfl (if_pos ⟨(hk ▸ Nat.le_refl _), (hk ▸ Nat.le_refl _)⟩)
theorem sJ21_treeify_50 : Rn r 263 50 [l0, l1, l2, l3, l4, l5, l6, l7, l8, l9, l10, l11, l12] [vR z0] h Q ↔ Rn r 263 52 [l0, l1, l2, l3, l4, some (vR z0), l6, l7, l8, l9, l10, l11, l12] [] h Q := Rn_nx pg263 rfl rfl
theorem sJ21_treeify_52 : Rn r 263 52 [l0, l1, l2, some (vR z), l4, l5, l6, l7, l8, l9, l10, l11, l12] [] h Q ↔ Rn r 263 53 [l0, l1, l2, some (vR z), l4, l5, l6, l7, l8, l9, l10, l11, l12] [vR z] h Q := Rn_nx pg263 rfl rfl
theorem sJ21_treeify_53 (hk : hK h a0 = 13) : Rn r 263 53 [l0, l1, l2, l3, l4, l5, l6, l7, l8, l9, l10, l11, l12] [vR (some a0)] h Q ↔ Rn r 263 56 [l0, l1, l2, l3, l4, l5, l6, l7, l8, l9, l10, l11, l12] [vI (hI h a0 0)] h Q := Rn_nx pg263 rfl (if_pos ⟨(hk ▸ Nat.le_refl _), (hk ▸ Nat.le_refl _)⟩)
theorem sJ21_treeify_56 : Rn r 263 56 [l0, l1, l2, l3, l4, l5, l6, l7, l8, l9, l10, l11, l12] [vI x0] h Q ↔ Rn r 263 58 [l0, l1, l2, l3, l4, l5, some (vI x0), l7, l8, l9, l10, l11, l12] [] h Q := Rn_nx pg263 rfl rfl
theorem sJ21_treeify_58 : Rn r 263 58 [l0, l1, l2, l3, l4, l5, l6, l7, l8, l9, l10, l11, l12] [] h Q ↔ Rn r 263 59 [l0, l1, l2, l3, l4, l5, l6, l7, l8, l9, l10, l11, l12] [vR none] h Q := Rn_nx pg263 rfl rfl
theorem sJ21_treeify_59 : Rn r 263 59 [l0, l1, l2, l3, l4, l5, l6, l7, l8, l9, l10, l11, l12] [vR z0] h Q ↔ Rn r 263 61 [l0, l1, l2, l3, l4, l5, l6, some (vR z0), l8, l9, l10, l11, l12] [] h Q := Rn_nx pg263 rfl rfl
theorem sJ21_treeify_61 : Rn r 263 61 [l0, l1, some (vR z), l3, l4, l5, l6, l7, l8, l9, l10, l11, l12] [] h Q ↔ Rn r 263 62 [l0, l1, some (vR z), l3, l4, l5, l6, l7, l8, l9, l10, l11, l12] [vR z] h Q := Rn_nx pg263 rfl rfl
theorem sJ21_treeify_62 : Rn r 263 62 [l0, l1, l2, l3, l4, l5, l6, l7, l8, l9, l10, l11, l12] [vR z0] h Q ↔ Rn r 263 64 [l0, l1, l2, l3, l4, l5, l6, l7, some (vR z0), l9, l10, l11, l12] [] h Q := Rn_nx pg263 rfl rfl
theorem sJ21_treeify_64 : Rn r 263 64 [l0, l1, l2, l3, l4, l5, l6, l7, some (vR z), l9, l10, l11, l12] [] h Q ↔ Rn r 263 66 [l0, l1, l2, l3, l4, l5, l6, l7, some (vR z), l9, l10, l11, l12] [vR z] h Q := Rn_nx pg263 rfl rfl
theorem sJ21_treeify_66 (hk : hK h a0 = 13) : Rn r 263 66 [l0, l1, l2, l3, l4, l5, l6, l7, l8, l9, l10, l11, l12] [vR (some a0)] h Q ↔ Rn r 263 69 [l0, l1, l2, l3, l4, l5, l6, l7, l8, l9, l10, l11, l12] [vR (hR h a0 1)] h Q := Rn_nx pg263 rfl (if_pos ⟨(hk ▸ Nat.le_refl _), (hk ▸ Nat.le_refl _)⟩)
theorem sJ21_treeify_69 : Rn r 263 69 [l0, l1, l2, l3, l4, l5, l6, l7, l8, l9, l10, l11, l12] [vR z0] h Q ↔ Rn r 263 71 [l0, l1, l2, l3, l4, l5, l6, l7, l8, l9, l10, some (vR z0), l12] [] h Q := Rn_nx pg263 rfl rfl
theorem sJ21_treeify_71 : Rn r 263 71 [l0, l1, l2, l3, l4, l5, l6, l7, some (vR z), l9, l10, l11, l12] [] h Q ↔ Rn r 263 73 [l0, l1, l2, l3, l4, l5, l6, l7, some (vR z), l9, l10, l11, l12] [vR z] h Q := Rn_nx pg263 rfl rfl
theorem sJ21_treeify_73 (hk : hK h a0 = 13) : Rn r 263 73 [l0, l1, l2, l3, l4, l5, l6, l7, l8, l9, l10, l11, l12] [vR (some a0)] h Q ↔ Rn r 263 76 [l0, l1, l2, l3, l4, l5, l6, l7, l8, l9, l10, l11, l12] [vI (hI h a0 0)] h Q := Rn_nx pg263 rfl (if_pos ⟨(hk ▸ Nat.le_refl _), (hk ▸ Nat.le_refl _)⟩)
theorem sJ21_treeify_76 : Rn r 263 76 [l0, l1, l2, l3, l4, l5, l6, l7, l8, l9, l10, l11, l12] [vI x0] h Q ↔ Rn r 263 77 [l0, l1, l2, l3, l4, l5, l6, l7, l8, l9, l10, l11, l12] [vI x0, vI x0] h Q := Rn_nx pg263 rfl rfl
theorem sJ21_treeify_77 : Rn r 263 77 [l0, l1, l2, l3, l4, l5, l6, l7, l8, l9, l10, l11, l12] [vI x0, vI x1] h Q ↔ Rn r 263 79 [l0, l1, l2, l3, l4, l5, l6, l7, l8, l9, some (vI x0), l11, l12] [vI x1] h Q := Rn_nx pg263 rfl rfl
theorem sJ21_treeify_79 : Rn r 263 79 [l0, l1, l2, l3, l4, l5, some (vI x), l7, l8, l9, l10, l11, l12] [vI x0] h Q ↔ Rn r 263 81 [l0, l1, l2, l3, l4, l5, some (vI x), l7, l8, l9, l10, l11, l12] [vI x, vI x0] h Q := Rn_nx pg263 rfl rfl
theorem sJ21_treeify_81 : Rn r 263 81 [l0, l1, l2, l3, l4, l5, l6, l7, l8, l9, l10, l11, l12] [vI x0, vI x1] h Q ↔ if x1 ≤ x0 then Rn r 263 90 [l0, l1, l2, l3, l4, l5, l6, l7, l8, l9, l10, l11, l12] [] h Q else Rn r 263 84 [l0, l1, l2, l3, l4, l5, l6, l7, l8, l9, l10, l11, l12] [] h Q := Rn_if pg263 rfl rfl rfl
theorem sJ21_treeify_84 : Rn r 263 84 [l0, l1, l2, l3, l4, l5, l6, l7, l8, l9, l10, l11, l12] [] h Q ↔ Rn r 263 85 [l0, l1, l2, l3, l4, l5, l6, l7, l8, l9, l10, l11, l12] [vI (-1)] h Q := Rn_nx pg263 rfl rfl
theorem sJ21_treeify_85 : Rn r 263 85 [l0, l1, l2, l3, l4, l5, l6, l7, l8, l9, l10, l11, l12] [vI x0] h Q ↔ Rn r 263 87 [l0, l1, l2, l3, l4, l5, l6, l7, l8, some (vI x0), l10, l11, l12] [] h Q := Rn_nx pg263 rfl rfl
theorem sJ21_treeify_87 : Rn r 263 87 [l0, l1, l2, l3, l4, l5, l6, l7, l8, l9, l10, l11, l12] [] h Q ↔ Rn r 263 143 [l0, l1, l2, l3, l4, l5, l6, l7, l8, l9, l10, l11, l12] [] h Q := Rn_nx pg263 rfl rfl
theorem sJ21_treeify_90 : Rn r 263 90 [l0, l1, l2, l3, l4, l5, l6, l7, l8, l9, some (vI x), l11, l12] [] h Q ↔ Rn r 263 92 [l0, l1, l2, l3, l4, l5, l6, l7, l8, l9, some (vI x), l11, l12] [vI x] h Q := Rn_nx pg263 rfl rfl
theorem sJ21_treeify_92 : Rn r 263 92 [l0, l1, l2, l3, l4, l5, some (vI x), l7, l8, l9, l10, l11, l12] [vI x0] h Q ↔ Rn r 263 94 [l0, l1, l2, l3, l4, l5, some (vI x), l7, l8, l9, l10, l11, l12] [vI x, vI x0] h Q := Rn_nx pg263 rfl rfl
theorem sJ21_treeify_94 : Rn r 263 94 [l0, l1, l2, l3, l4, l5, l6, l7, l8, l9, l10, l11, l12] [vI x0, vI x1] h Q ↔ if x0 ≤ x1 then Rn r 263 103 [l0, l1, l2, l3, l4, l5, l6, l7, l8, l9, l10, l11, l12] [] h Q else Rn r 263 97 [l0, l1, l2, l3, l4, l5, l6, l7, l8, l9, l10, l11, l12] [] h Q := Rn_if pg263 rfl rfl rfl
theorem sJ21_treeify_97 : Rn r 263 97 [l0, l1, l2, l3, l4, l5, l6, l7, l8, l9, l10, l11, l12] [] h Q ↔ Rn r 263 98 [l0, l1, l2, l3, l4, l5, l6, l7, l8, l9, l10, l11, l12] [vI 1] h Q := Rn_nx pg263 rfl rfl
theorem sJ21_treeify_98 : Rn r 263 98 [l0, l1, l2, l3, l4, l5, l6, l7, l8, l9, l10, l11, l12] [vI x0] h Q ↔ Rn r 263 100 [l0, l1, l2, l3, l4, l5, l6, l7, l8, some (vI x0), l10, l11, l12] [] h Q := Rn_nx pg263 rfl rfl
theorem sJ21_treeify_100 : Rn r 263 100 [l0, l1, l2, l3, l4, l5, l6, l7, l8, l9, l10, l11, l12] [] h Q ↔ Rn r 263 143 [l0, l1, l2, l3, l4, l5, l6, l7, l8, l9, l10, l11, l12] [] h Q := Rn_nx pg263 rfl rfl
theorem sJ21_treeify_103 : Rn r 263 103 [l0, l1, l2, l3, l4, l5, l6, some (vR z), l8, l9, l10, l11, l12] [] h Q ↔ Rn r 263 105 [l0, l1, l2, l3, l4, l5, l6, some (vR z), l8, l9, l10, l11, l12] [vR z] h Q := Rn_nx pg263 rfl rfl
theorem sJ21_treeify_105 : Rn r 263 105 [l0, l1, l2, l3, l4, l5, l6, l7, l8, l9, l10, l11, l12] [vR z0] h Q ↔ if z0 ≠ none then Rn r 263 119 [l0, l1, l2, l3, l4, l5, l6, l7, l8, l9, l10, l11, l12] [] h Q else Rn r 263 108 [l0, l1, l2, l3, l4, l5, l6, l7, l8, l9, l10, l11, l12] [] h Q := Rn_if pg263 rfl rfl rfl
theorem sJ21_treeify_108 : Rn r 263 108 [l0, l1, l2, l3, l4, some (vR z), l6, l7, l8, l9, l10, l11, l12] [] h Q ↔ Rn r 263 110 [l0, l1, l2, l3, l4, some (vR z), l6, l7, l8, l9, l10, l11, l12] [vR z] h Q := Rn_nx pg263 rfl rfl
theorem sJ21_treeify_110 : Rn r 263 110 [l0, l1, l2, l3, l4, l5, l6, l7, l8, l9, l10, l11, l12] [vR z0] h Q ↔ Cl r 250 [vR z0] h (Kt r 263 113 [l0, l1, l2, l3, l4, l5, l6, l7, l8, l9, l10, l11, l12] [] Q) := Rn_call pg263 rfl rfl pg250 rfl rfl rfl
theorem sJ21_treeify_113 : Rn r 263 113 [l0, l1, l2, l3, l4, l5, l6, l7, l8, l9, l10, l11, l12] [vR z0] h Q ↔ Rn r 263 114 [l0, l1, l2, l3, l4, l5, l6, l7, l8, l9, l10, l11, l12] [vR z0, vR z0] h Q := Rn_nx pg263 rfl rfl
theorem sJ21_treeify_114 : Rn r 263 114 [l0, l1, l2, l3, l4, l5, l6, l7, l8, l9, l10, l11, l12] [vR z0, vR z1] h Q ↔ Rn r 263 116 [l0, l1, l2, l3, l4, l5, l6, some (vR z0), l8, l9, l10, l11, l12] [vR z1] h Q := Rn_nx pg263 rfl rfl
theorem sJ21_treeify_116 : Rn r 263 116 [l0, l1, l2, l3, l4, l5, l6, l7, l8, l9, l10, l11, l12] [vR z0] h Q ↔ if z0 = none then Rn r 263 134 [l0, l1, l2, l3, l4, l5, l6, l7, l8, l9, l10, l11, l12] [] h Q else Rn r 263 119 [l0, l1, l2, l3, l4, l5, l6, l7, l8, l9, l10, l11, l12] [] h Q := Rn_if pg263 rfl rfl rfl
theorem sJ21_treeify_119 : Rn r 263 119 [l0, l1, l2, l3, l4, l5, l6, some (vR z), l8, l9, l10, l11, l12] [] h Q ↔ Rn r 263 121 [l0, l1, l2, l3, l4, l5, l6, some (vR z), l8, l9, l10, l11, l12] [vR z] h Q := Rn_nx pg263 rfl rfl
theorem sJ21_treeify_121 : Rn r 263 121 [l0, l1, l2, l3, l4, some (vR z), l6, l7, l8, l9, l10, l11, l12] [vR z0] h Q ↔ Rn r 263 123 [l0, l1, l2, l3, l4, some (vR z), l6, l7, l8, l9, l10, l11, l12] [vR z, vR z0] h Q := Rn_nx pg263 rfl rfl
theorem sJ21_treeify_123 : Rn r 263 123 [l0, l1, l2, l3, l4, l5, l6, l7, l8, l9, l10, some (vR z), l12] [vR z0, vR z1] h Q ↔ Rn r 263 125 [l0, l1, l2, l3, l4, l5, l6, l7, l8, l9, l10, some (vR z), l12] [vR z, vR z0, vR z1] h Q := Rn_nx pg263 rfl rfl
theorem sJ21_treeify_125 : Rn r 263 125 [l0, l1, l2, l3, l4, l5, l6, l7, l8, l9, l10, l11, l12] [vR z0, vR z1, vR z2] h Q ↔ Cl r 251 [vR z2, vR z1, vR z0] h (Kt r 263 128 [l0, l1, l2, l3, l4, l5, l6, l7, l8, l9, l10, l11, l12] [] Q) := Rn_call pg263 rfl rfl pg251 rfl rfl rfl
theorem sJ21_treeify_128 : Rn r 263 128 [l0, l1, l2, l3, l4, l5, l6, l7, l8, l9, l10, l11, l12] [vI x0] h Q ↔ Rn r 263 129 [l0, l1, l2, l3, l4, l5, l6, l7, l8, l9, l10, l11, l12] [vI x0, vI x0] h Q := Rn_nx pg263 rfl rfl
theorem sJ21_treeify_129 : Rn r 263 129 [l0, l1, l2, l3, l4, l5, l6, l7, l8, l9, l10, l11, l12] [vI x0, vI x1] h Q ↔ Rn r 263 131 [l0, l1, l2, l3, l4, l5, l6, l7, l8, some (vI x0), l10, l11, l12] [vI x1] h Q := Rn_nx pg263 rfl rfl
theorem sJ21_treeify_131 : Rn r 263 131 [l0, l1, l2, l3, l4, l5, l6, l7, l8, l9, l10, l11, l12] [vI x0] h Q ↔ if x0 ≠ 0 then Rn r 263 143 [l0, l1, l2, l3, l4, l5, l6, l7, l8, l9, l10, l11, l12] [] h Q else Rn r 263 134 [l0, l1, l2, l3, l4, l5, l6, l7, l8, l9, l10, l11, l12] [] h Q := Rn_if pg263 rfl rfl rfl
theorem sJ21_treeify_134 : Rn r 263 134 [l0, l1, l2, l3, l4, some (vR z), l6, l7, l8, l9, l10, l11, l12] [] h Q ↔ Rn r 263 136 [l0, l1, l2, l3, l4, some (vR z), l6, l7, l8, l9, l10, l11, l12] [vR z] h Q := Rn_nx pg263 rfl rfl
theorem sJ21_treeify_136 : Rn r 263 136 [l0, l1, l2, l3, l4, l5, l6, l7, l8, l9, l10, some (vR z), l12] [vR z0] h Q ↔ Rn r 263 138 [l0, l1, l2, l3, l4, l5, l6, l7, l8, l9, l10, some (vR z), l12] [vR z, vR z0] h Q := Rn_nx pg263 rfl rfl
theorem sJ21_treeify_143 : Rn r 263 143 [l0, l1, l2, l3, l4, l5, l6, l7, some (vR z), l9, l10, l11, l12] [] h Q ↔ Rn r 263 145 [l0, l1, l2, l3, l4, l5, l6, l7, some (vR z), l9, l10, l11, l12] [vR z] h Q := Rn_nx pg263 rfl rfl
theorem sJ21_treeify_145 : Rn r 263 145 [l0, l1, l2, l3, l4, l5, l6, l7, l8, l9, l10, l11, l12] [vR z0] h Q ↔ Rn r 263 147 [l0, l1, l2, l3, l4, l5, l6, l7, l8, l9, l10, l11, some (vR z0)] [] h Q := Rn_nx pg263 rfl rfl
theorem sJ21_treeify_147 : Rn r 263 147 [l0, l1, l2, l3, l4, l5, l6, l7, l8, some (vI x), l10, l11, l12] [] h Q ↔ Rn r 263 149 [l0, l1, l2, l3, l4, l5, l6, l7, l8, some (vI x), l10, l11, l12] [vI x] h Q := Rn_nx pg263 rfl rfl
theorem sJ21_treeify_149 : Rn r 263 149 [l0, l1, l2, l3, l4, l5, l6, l7, l8, l9, l10, l11, l12] [vI x0] h Q ↔ if 0 < x0 then Rn r 263 160 [l0, l1, l2, l3, l4, l5, l6, l7, l8, l9, l10, l11, l12] [] h Q else Rn r 263 152 [l0, l1, l2, l3, l4, l5, l6, l7, l8, l9, l10, l11, l12] [] h Q := Rn_if pg263 rfl rfl rfl
theorem sJ21_treeify_152 : Rn r 263 152 [l0, l1, l2, l3, l4, l5, l6, l7, some (vR z), l9, l10, l11, l12] [] h Q ↔ Rn r 263 154 [l0, l1, l2, l3, l4, l5, l6, l7, some (vR z), l9, l10, l11, l12] [vR z] h Q := Rn_nx pg263 rfl rfl
theorem sJ21_treeify_154 (hk : hK h a0 = 13) : Rn r 263 154 [l0, l1, l2, l3, l4, l5, l6, l7, l8, l9, l10, l11, l12] [vR (some a0)] h Q ↔ Rn r 263 157 [l0, l1, l2, l3, l4, l5, l6, l7, l8, l9, l10, l11, l12] [vR (hR h a0 5)] h Q := Rn_nx pg263 rfl (if_pos ⟨(hk ▸ Nat.le_refl _), (hk ▸ Nat.le_refl _)⟩)
theorem sJ21_treeify_157 : Rn r 263 157 [l0, l1, l2, l3, l4, l5, l6, l7, l8, l9, l10, l11, l12] [vR z0] h Q ↔ Rn r 263 165 [l0, l1, l2, l3, l4, l5, l6, l7, l8, l9, l10, l11, l12] [vR z0] h Q := Rn_nx pg263 rfl rfl
theorem sJ21_treeify_160 : Rn r 263 160 [l0, l1, l2, l3, l4, l5, l6, l7, some (vR z), l9, l10, l11, l12] [] h Q ↔ Rn r 263 162 [l0, l1, l2, l3, l4, l5, l6, l7, some (vR z), l9, l10, l11, l12] [vR z] h Q := Rn_nx pg263 rfl rfl
theorem sJ21_treeify_162 (hk : hK h a0 = 13) : Rn r 263 162 [l0, l1, l2, l3, l4, l5, l6, l7, l8, l9, l10, l11, l12] [vR (some a0)] h Q ↔ Rn r 263 165 [l0, l1, l2, l3, l4, l5, l6, l7, l8, l9, l10, l11, l12] [vR (hR h a0 6)] h Q := Rn_nx pg263 rfl (if_pos ⟨(hk ▸ Nat.le_refl _), (hk ▸ Nat.le_refl _)⟩)
theorem sJ21_treeify_165 : Rn r 263 165 [l0, l1, l2, l3, l4, l5, l6, l7, l8, l9, l10, l11, l12] [vR z0] h Q ↔ Rn r 263 166 [l0, l1, l2, l3, l4, l5, l6, l7, l8, l9, l10, l11, l12] [vR z0, vR z0] h Q := Rn_nx pg263 rfl rfl
theorem sJ21_treeify_166 : Rn r 263 166 [l0, l1, l2, l3, l4, l5, l6, l7, l8, l9, l10, l11, l12] [vR z0, vR z1] h Q ↔ Rn r 263 168 [l0, l1, l2, l3, l4, l5, l6, l7, some (vR z0), l9, l10, l11, l12] [vR z1] h Q := Rn_nx pg263 rfl rfl
theorem sJ21_treeify_168 : Rn r 263 168 [l0, l1, l2, l3, l4, l5, l6, l7, l8, l9, l10, l11, l12] [vR z0] h Q ↔ if z0 ≠ none then Rn r 263 206 [l0, l1, l2, l3, l4, l5, l6, l7, l8, l9, l10, l11, l12] [] h Q else Rn r 263 171 [l0, l1, l2, l3, l4, l5, l6, l7, l8, l9, l10, l11, l12] [] h Q := Rn_if pg263 rfl rfl rfl
theorem sJ21_treeify_171 : Rn r 263 171 [l0, l1, l2, some (vR z), l4, l5, l6, l7, l8, l9, l10, l11, l12] [] h Q ↔ Rn r 263 172 [l0, l1, l2, some (vR z), l4, l5, l6, l7, l8, l9, l10, l11, l12] [vR z] h Q := Rn_nx pg263 rfl rfl
theorem sJ21_treeify_172 : Rn r 263 172 [l0, l1, l2, l3, l4, l5, l6, l7, l8, l9, l10, l11, some (vR z)] [vR z0] h Q ↔ Rn r 263 174 [l0, l1, l2, l3, l4, l5, l6, l7, l8, l9, l10, l11, some (vR z)] [vR z, vR z0] h Q := Rn_nx pg263 rfl rfl
theorem sJ21_treeify_174 (hk : hK h a1 = 13) : Rn r 263 174 [l0, l1, l2, l3, l4, l5, l6, l7, l8, l9, l10, l11, l12] [vR z0, vR (some a1)] h Q ↔ Rn r 263 177 [l0, l1, l2, l3, l4, l5, l6, l7, l8, l9, l10, l11, l12] [] (putR h a1 4 z0) Q := Rn_nx pg263 rfl ((if_pos ⟨(hk ▸ Nat.le_refl _), (hk ▸ Nat.le_refl _)⟩).trans rfl)
theorem sJ21_treeify_177 : Rn r 263 177 [l0, l1, l2, l3, l4, l5, l6, l7, l8, some (vI x), l10, l11, l12] [] h Q ↔ Rn r 263 179 [l0, l1, l2, l3, l4, l5, l6, l7, l8, some (vI x), l10, l11, l12] [vI x] h Q := Rn_nx pg263 rfl rfl
theorem sJ21_treeify_179 : Rn r 263 179 [l0, l1, l2, l3, l4, l5, l6, l7, l8, l9, l10, l11, l12] [vI x0] h Q ↔ if 0 < x0 then Rn r 263 191 [l0, l1, l2, l3, l4, l5, l6, l7, l8, l9, l10, l11, l12] [] h Q else Rn r 263 182 [l0, l1, l2, l3, l4, l5, l6, l7, l8, l9, l10, l11, l12] [] h Q := Rn_if pg263 rfl rfl rfl
theorem sJ21_treeify_182 : Rn r 263 182 [l0, l1, l2, l3, l4, l5, l6, l7, l8, l9, l10, l11, some (vR z)] [] h Q ↔ Rn r 263 184 [l0, l1, l2, l3, l4, l5, l6, l7, l8, l9, l10, l11, some (vR z)] [vR z] h Q := Rn_nx pg263 rfl rfl
theorem sJ21_treeify_184 : Rn r 263 184 [l0, l1, l2, some (vR z), l4, l5, l6, l7, l8, l9, l10, l11, l12] [vR z0] h Q ↔ Rn r 263 185 [l0, l1, l2, some (vR z), l4, l5, l6, l7, l8, l9, l10, l11, l12] [vR z, vR z0] h Q := Rn_nx pg263 rfl rfl
theorem sJ21_treeify_185 (hk : hK h a1 = 13) : Rn r 263 185 [l0, l1, l2, l3, l4, l5, l6, l7, l8, l9, l10, l11, l12] [vR z0, vR (some a1)] h Q ↔ Rn r 263 188 [l0, l1, l2, l3, l4, l5, l6, l7, l8, l9, l10, l11, l12] [] (putR h a1 5 z0) Q := Rn_nx pg263 rfl ((if_pos ⟨(hk ▸ Nat.le_refl _), (hk ▸ Nat.le_refl _)⟩).trans rfl)
theorem sJ21_treeify_188 : Rn r 263 188 [l0, l1, l2, l3, l4, l5, l6, l7, l8, l9, l10, l11, l12] [] h Q ↔ Rn r 263 197 [l0, l1, l2, l3, l4, l5, l6, l7, l8, l9, l10, l11, l12] [] h Q := Rn_nx pg263 rfl rfl
theorem sJ21_treeify_191 : Rn r 263 191 [l0, l1, l2, l3, l4, l5, l6, l7, l8, l9, l10, l11, some (vR z)] [] h Q ↔ Rn r 263 193 [l0, l1, l2, l3, l4, l5, l6, l7, l8, l9, l10, l11, some (vR z)] [vR z] h Q := Rn_nx pg263 rfl rfl
theorem sJ21_treeify_193 : Rn r 263 193 [l0, l1, l2, some (vR z), l4, l5, l6, l7, l8, l9, l10, l11, l12] [vR z0] h Q ↔ Rn r 263 194 [l0, l1, l2, some (vR z), l4, l5, l6, l7, l8, l9, l10, l11, l12] [vR z, vR z0] h Q := Rn_nx pg263 rfl rfl
theorem sJ21_treeify_194 (hk : hK h a1 = 13) : Rn r 263 194 [l0, l1, l2, l3, l4, l5, l6, l7, l8, l9, l10, l11, l12] [vR z0, vR (some a1)] h Q ↔ Rn r 263 197 [l0, l1, l2, l3, l4, l5, l6, l7, l8, l9, l10, l11, l12] [] (putR h a1 6 z0) Q := Rn_nx pg263 rfl ((if_pos ⟨(hk ▸ Nat.le_refl _), (hk ▸ Nat.le_refl _)⟩).trans rfl)
theorem sJ21_treeify_197 : Rn r 263 197 [l0, l1, some (vR z), l3, l4, l5, l6, l7, l8, l9, l10, l11, l12] [] h Q ↔ Rn r 263 198 [l0, l1, some (vR z), l3, l4, l5, l6, l7, l8, l9, l10, l11, l12] [vR z] h Q := Rn_nx pg263 rfl rfl
theorem sJ21_treeify_198 : Rn r 263 198 [l0, l1, l2, some (vR z), l4, l5, l6, l7, l8, l9, l10, l11, l12] [vR z0] h Q ↔ Rn r 263 199 [l0, l1, l2, some (vR z), l4, l5, l6, l7, l8, l9, l10, l11, l12] [vR z, vR z0] h Q := Rn_nx pg263 rfl rfl
theorem sJ21_treeify_199 : Rn r 263 199 [l0, l1, l2, l3, l4, l5, l6, l7, l8, l9, l10, l11, l12] [vR z0, vR z1] h Q ↔ Cl r 260 [vR z1, vR z0] h (Kt r 263 202 [l0, l1, l2, l3, l4, l5, l6, l7, l8, l9, l10, l11, l12] [] Q) := Rn_call pg263 rfl rfl pg260 rfl rfl rfl
theorem sJ21_treeify_202 : Rn r 263 202 [l0, l1, l2, l3, l4, l5, l6, l7, l8, l9, l10, l11, l12] [vR z0] h Q ↔ Rn r 263 203 [l0, l1, some (vR z0), l3, l4, l5, l6, l7, l8, l9, l10, l11, l12] [] h Q := Rn_nx pg263 rfl rfl
theorem sJ21_treeify_203 : Rn r 263 203 [l0, l1, l2, l3, l4, l5, l6, l7, l8, l9, l10, l11, l12] [] h Q ↔ Rn r 263 209 [l0, l1, l2, l3, l4, l5, l6, l7, l8, l9, l10, l11, l12] [] h Q := Rn_nx pg263 rfl rfl
theorem sJ21_treeify_206 : Rn r 263 206 [l0, l1, l2, l3, l4, l5, l6, l7, l8, l9, l10, l11, l12] [] h Q ↔ Rn r 263 64 [l0, l1, l2, l3, l4, l5, l6, l7, l8, l9, l10, l11, l12] [] h Q := Rn_nx pg263 rfl rfl
theorem sJ21_treeify_209 : Rn r 263 209 [l0, l1, l2, l3, some (vR z), l5, l6, l7, l8, l9, l10, l11, l12] [] h Q ↔ Rn r 263 211 [l0, l1, l2, l3, some (vR z), l5, l6, l7, l8, l9, l10, l11, l12] [vR z] h Q := Rn_nx pg263 rfl rfl
theorem sJ21_treeify_211 : Rn r 263 211 [l0, l1, l2, l3, l4, l5, l6, l7, l8, l9, l10, l11, l12] [vR z0] h Q ↔ Rn r 263 212 [l0, l1, l2, some (vR z0), l4, l5, l6, l7, l8, l9, l10, l11, l12] [] h Q := Rn_nx pg263 rfl rfl
theorem sJ21_treeify_212 : Rn r 263 212 [l0, l1, l2, l3, l4, l5, l6, l7, l8, l9, l10, l11, l12] [] h Q ↔ Rn r 263 4 [l0, l1, l2, l3, l4, l5, l6, l7, l8, l9, l10, l11, l12] [] h Q := Rn_nx pg263 rfl rfl
theorem sJ21_treeify_215 : Rn r 263 215 [l0, some (vR z), l2, l3, l4, l5, l6, l7, l8, l9, l10, l11, l12] [] h Q ↔ Rn r 263 216 [l0, some (vR z), l2, l3, l4, l5, l6, l7, l8, l9, l10, l11, l12] [vR z] h Q := Rn_nx pg263 rfl rfl
theorem sJ21_treeify_216 : Rn r 263 216 [l0, l1, some (vR z), l3, l4, l5, l6, l7, l8, l9, l10, l11, l12] [vR z0] h Q ↔ Rn r 263 217 [l0, l1, some (vR z), l3, l4, l5, l6, l7, l8, l9, l10, l11, l12] [vR z, vR z0] h Q := Rn_nx pg263 rfl rfl
theorem sJ21_treeify_217 : Rn r 263 217 [l0, l1, l2, l3, l4, l5, l6, l7, l8, l9, l10, l11, l12] [vR z0, vR z1] h Q ↔ Cl r 261 [vR z1, vR z0] h (Kt r 263 220 [l0, l1, l2, l3, l4, l5, l6, l7, l8, l9, l10, l11, l12] [] Q) := Rn_call pg263 rfl rfl pg261 rfl rfl rfl
theorem sJ21_treeify_220 : Rn r 263 220 [l0, l1, l2, l3, l4, l5, l6, l7, l8, l9, l10, l11, l12] [] h Q ↔ Q (Sum.inl none) h := Rn_end pg263 rfl rfl
/-! 264 java/lang/String.coder()B -/
theorem eJ13_coder : Cl r 264 [vR z0] h Q ↔ Rn r 264 0 [some (vR z0)] [] h Q := Cl_in pg264 rfl
theorem sJ13_coder_0 : Rn r 264 0 [l0] [] h Q ↔ Rn r 264 3 [l0] [vI 1] h Q := Rn_nx pg264 rfl rfl
theorem sJ13_coder_3 : Rn r 264 3 [l0] [vI x0] h Q ↔ if x0 = 0 then Rn r 264 13 [l0] [] h Q else Rn r 264 6 [l0] [] h Q := Rn_if pg264 rfl rfl rfl
theorem sJ13_coder_6 : Rn r 264 6 [some (vR z)] [] h Q ↔ Rn r 264 7 [some (vR z)] [vR z] h Q := Rn_nx pg264 rfl rfl
theorem sJ13_coder_7 (hk : 10 ≤ hK h a0) (hk2 : hK h a0 ≤ 11) : Rn r 264 7 [l0] [vR (some a0)] h Q ↔ Rn r 264 10 [l0] [vI (hI h a0 1)] h Q := Rn_nx pg264 rfl (if_pos ⟨hk, hk2⟩)
theorem sJ13_coder_10 : Rn r 264 10 [l0] [vI x0] h Q ↔ Rn r 264 14 [l0] [vI x0] h Q := Rn_nx pg264 rfl rfl
theorem sJ13_coder_13 : Rn r 264 13 [l0] [] h Q ↔ Rn r 264 14 [l0] [vI 1] h Q := Rn_nx pg264 rfl rfl
theorem sJ13_coder_14 (hf : am_fit 5 x0 = true) : Rn r 264 14 [l0] [vI x0] h Q ↔ Q (Sum.inl (some (vI x0))) h := Rn_end pg264 rfl (if_pos hf)
/-! 265 java/lang/StringLatin1.canEncode(I)Z -/
theorem eJ14_canEncode_2 : Cl r 265 [vI x0] h Q ↔ Rn r 265 0 [some (vI x0)] [] h Q := Cl_in pg265 rfl
theorem sJ14_canEncode_2_0 : Rn r 265 0 [some (vI x)] [] h Q ↔ Rn r 265 1 [some (vI x)] [vI x] h Q := Rn_nx pg265 rfl rfl
theorem sJ14_canEncode_2_1 : Rn r 265 1 [l0] [vI x0] h Q ↔ if x0 < 0 then Rn r 265 15 [l0] [] h Q else Rn r 265 4 [l0] [] h Q := Rn_if pg265 rfl rfl rfl
theorem sJ14_canEncode_2_4 : Rn r 265 4 [some (vI x)] [] h Q ↔ Rn r 265 5 [some (vI x)] [vI x] h Q := Rn_nx pg265 rfl rfl
theorem sJ14_canEncode_2_5 : Rn r 265 5 [l0] [vI x0] h Q ↔ Rn r 265 8 [l0] [vI 255, vI x0] h Q := Rn_nx pg265 rfl rfl
theorem sJ14_canEncode_2_8 : Rn r 265 8 [l0] [vI x0, vI x1] h Q ↔ if x0 < x1 then Rn r 265 15 [l0] [] h Q else Rn r 265 11 [l0] [] h Q := Rn_if pg265 rfl rfl rfl
theorem sJ14_canEncode_2_11 : Rn r 265 11 [l0] [] h Q ↔ Rn r 265 12 [l0] [vI 1] h Q := Rn_nx pg265 rfl rfl
theorem sJ14_canEncode_2_12 : Rn r 265 12 [l0] [vI x0] h Q ↔ Rn r 265 16 [l0] [vI x0] h Q := Rn_nx pg265 rfl rfl
theorem sJ14_canEncode_2_15 : Rn r 265 15 [l0] [] h Q ↔ Rn r 265 16 [l0] [vI 0] h Q := Rn_nx pg265 rfl rfl
theorem sJ14_canEncode_2_16 (hf : am_fit 4 x0 = true) : Rn r 265 16 [l0] [vI x0] h Q ↔ Q (Sum.inl (some (vI x0))) h := Rn_end pg265 rfl (if_pos hf)
/-! 266 java/lang/Math.max(II)I -/
theorem eJ9_max : Cl r 266 [vI x0, vI x1] h Q ↔ Rn r 266 0 [some (vI x0), some (vI x1)] [] h Q := Cl_in pg266 rfl
theorem sJ9_max_0 : Rn r 266 0 [some (vI x), l1] [] h Q ↔ Rn r 266 1 [some (vI x), l1] [vI x] h Q := Rn_nx pg266 rfl rfl
theorem sJ9_max_1 : Rn r 266 1 [l0, some (vI x)] [vI x0] h Q ↔ Rn r 266 2 [l0, some (vI x)] [vI x, vI x0] h Q := Rn_nx pg266 rfl rfl
theorem sJ9_max_2 : Rn r 266 2 [l0, l1] [vI x0, vI x1] h Q ↔ if x1 < x0 then Rn r 266 9 [l0, l1] [] h Q else Rn r 266 5 [l0, l1] [] h Q := Rn_if pg266 rfl rfl rfl
theorem sJ9_max_5 : Rn r 266 5 [some (vI x), l1] [] h Q ↔ Rn r 266 6 [some (vI x), l1] [vI x] h Q := Rn_nx pg266 rfl rfl
theorem sJ9_max_6 : Rn r 266 6 [l0, l1] [vI x0] h Q ↔ Rn r 266 10 [l0, l1] [vI x0] h Q := Rn_nx pg266 rfl rfl
theorem sJ9_max_9 : Rn r 266 9 [l0, some (vI x)] [] h Q ↔ Rn r 266 10 [l0, some (vI x)] [vI x] h Q := Rn_nx pg266 rfl rfl
theorem sJ9_max_10 : Rn r 266 10 [l0, l1] [vI x0] h Q ↔ Q (Sum.inl (some (vI x0))) h := Rn_end pg266 rfl rfl
/-! 267 java/lang/StringLatin1.indexOfChar([BIII)I -/
theorem eJ14_indexOfChar : Cl r 267 [vR z0, vI x1, vI x2, vI x3] h Q ↔ Rn r 267 0 [some (vR z0), some (vI x1), some (vI x2), some (vI x3), none, none] [] h Q := Cl_in pg267 rfl
theorem sJ14_indexOfChar_0 : Rn r 267 0 [l0, some (vI x), l2, l3, l4, l5] [] h Q ↔ Rn r 267 1 [l0, some (vI x), l2, l3, l4, l5] [vI x] h Q := Rn_nx pg267 rfl rfl
theorem sJ14_indexOfChar_1 : Rn r 267 1 [l0, l1, l2, l3, l4, l5] [vI x0] h Q ↔ Rn r 267 2 [l0, l1, l2, l3, l4, l5] [vI x0.toInt8.toInt32] h Q := Rn_nx pg267 rfl rfl
theorem sJ14_indexOfChar_2 : Rn r 267 2 [l0, l1, l2, l3, l4, l5] [vI x0] h Q ↔ Rn r 267 4 [l0, l1, l2, l3, some (vI x0), l5] [] h Q := Rn_nx pg267 rfl rfl
theorem sJ14_indexOfChar_4 : Rn r 267 4 [l0, l1, some (vI x), l3, l4, l5] [] h Q ↔ Rn r 267 5 [l0, l1, some (vI x), l3, l4, l5] [vI x] h Q := Rn_nx pg267 rfl rfl
theorem sJ14_indexOfChar_5 : Rn r 267 5 [l0, l1, l2, l3, l4, l5] [vI x0] h Q ↔ Rn r 267 7 [l0, l1, l2, l3, l4, some (vI x0)] [] h Q := Rn_nx pg267 rfl rfl
theorem sJ14_indexOfChar_7 : Rn r 267 7 [l0, l1, l2, l3, l4, some (vI x)] [] h Q ↔ Rn r 267 9 [l0, l1, l2, l3, l4, some (vI x)] [vI x] h Q := Rn_nx pg267 rfl rfl
theorem sJ14_indexOfChar_9 : Rn r 267 9 [l0, l1, l2, some (vI x), l4, l5] [vI x0] h Q ↔ Rn r 267 10 [l0, l1, l2, some (vI x), l4, l5] [vI x, vI x0] h Q := Rn_nx pg267 rfl rfl
theorem sJ14_indexOfChar_10 : Rn r 267 10 [l0, l1, l2, l3, l4, l5] [vI x0, vI x1] h Q ↔ if x0 ≤ x1 then Rn r 267 31 [l0, l1, l2, l3, l4, l5] [] h Q else Rn r 267 13 [l0, l1, l2, l3, l4, l5] [] h Q := Rn_if pg267 rfl rfl rfl
theorem sJ14_indexOfChar_13 : Rn r 267 13 [some (vR z), l1, l2, l3, l4, l5] [] h Q ↔ Rn r 267 14 [some (vR z), l1, l2, l3, l4, l5] [vR z] h Q := Rn_nx pg267 rfl rfl
theorem sJ14_indexOfChar_14 : Rn r 267 14 [l0, l1, l2, l3, l4, some (vI x)] [vR z0] h Q ↔ Rn r 267 16 [l0, l1, l2, l3, l4, some (vI x)] [vI x, vR z0] h Q := Rn_nx pg267 rfl rfl
theorem sJ14_indexOfChar_16 (hk : 43 ≤ hK h a1) (hk2 : hK h a1 ≤ 45) (hx : ¬ (x0 < 0 ∨ hL h a1 ≤ x0.toNatClampNeg)) : Rn r 267 16 [l0, l1, l2, l3, l4, l5] [vI x0, vR (some a1)] h Q ↔ Rn r 267 17 [l0, l1, l2, l3, l4, l5] [vI (hI h a1 x0.toNatClampNeg)] h Q := Rn_nx pg267 rfl ((if_pos ⟨hk, hk2⟩).trans (if_neg hx))
theorem sJ14_indexOfChar_17 : Rn r 267 17 [l0, l1, l2, l3, some (vI x), l5] [vI x0] h Q ↔ Rn r 267 19 [l0, l1, l2, l3, some (vI x), l5] [vI x, vI x0] h Q := Rn_nx pg267 rfl rfl
theorem sJ14_indexOfChar_19 : Rn r 267 19 [l0, l1, l2, l3, l4, l5] [vI x0, vI x1] h Q ↔ if x1 ≠ x0 then Rn r 267 25 [l0, l1, l2, l3, l4, l5] [] h Q else Rn r 267 22 [l0, l1, l2, l3, l4, l5] [] h Q := Rn_if pg267 rfl rfl rfl
theorem sJ14_indexOfChar_22 : Rn r 267 22 [l0, l1, l2, l3, l4, some (vI x)] [] h Q ↔ Rn r 267 24 [l0, l1, l2, l3, l4, some (vI x)] [vI x] h Q := Rn_nx pg267 rfl rfl
theorem sJ14_indexOfChar_24 : Rn r 267 24 [l0, l1, l2, l3, l4, l5] [vI x0] h Q ↔ Q (Sum.inl (some (vI x0))) h := Rn_end pg267 rfl rfl
theorem sJ14_indexOfChar_25 : Rn r 267 25 [l0, l1, l2, l3, l4, some (vI x)] [] h Q ↔ Rn r 267 28 [l0, l1, l2, l3, l4, some (vI (x + 1))] [] h Q := Rn_nx pg267 rfl rfl
theorem sJ14_indexOfChar_28 : Rn r 267 28 [l0, l1, l2, l3, l4, l5] [] h Q ↔ Rn r 267 7 [l0, l1, l2, l3, l4, l5] [] h Q := Rn_nx pg267 rfl rfl
theorem sJ14_indexOfChar_31 : Rn r 267 31 [l0, l1, l2, l3, l4, l5] [] h Q ↔ Rn r 267 32 [l0, l1, l2, l3, l4, l5] [vI (-1)] h Q := Rn_nx pg267 rfl rfl
theorem sJ14_indexOfChar_32 : Rn r 267 32 [l0, l1, l2, l3, l4, l5] [vI x0] h Q ↔ Q (Sum.inl (some (vI x0))) h := Rn_end pg267 rfl rfl
/-! 268 java/lang/AbstractStringBuilder.append(Ljava/lang/String;)Ljava/lang/AbstractStringBuilder; -/
theorem eJ22_append_2 : Cl r 268 [vR z0, vR z1] h Q ↔ Rn r 268 0 [some (vR z0), some (vR z1), none] [] h Q := Cl_in pg268 rfl
theorem sJ22_append_2_0 : Rn r 268 0 [l0, some (vR z), l2] [] h Q ↔ Rn r 268 1 [l0, some (vR z), l2] [vR z] h Q := Rn_nx pg268 rfl rfl
theorem sJ22_append_2_1 : Rn r 268 1 [l0, l1, l2] [vR z0] h Q ↔ if z0 ≠ none then Rn r 268 9 [l0, l1, l2] [] h Q else Rn r 268 4 [l0, l1, l2] [] h Q := Rn_if pg268 rfl rfl rfl
theorem sJ22_append_2_4 : Rn r 268 4 [some (vR z), l1, l2] [] h Q ↔ Rn r 268 5 [some (vR z), l1, l2] [vR z] h Q := Rn_nx pg268 rfl rfl
theorem sJ22_append_2_8 : Rn r 268 8 [l0, l1, l2] [vR z0] h Q ↔ Q (Sum.inl (some (vR z0))) h := Rn_end pg268 rfl rfl
theorem sJ22_append_2_9 : Rn r 268 9 [l0, some (vR z), l2] [] h Q ↔ Rn r 268 10 [l0, some (vR z), l2] [vR z] h Q := Rn_nx pg268 rfl rfl
theorem sJ22_append_2_10 (hk : 10 ≤ hK h a0) (hk2 : hK h a0 ≤ 11) : Rn r 268 10 [l0, l1, l2] [vR (some a0)] h Q ↔ Cl r 213 [vR (some a0)] h (Kt r 268 13 [l0, l1, l2] [] Q) := Rn_call pg268 rfl (by rcases am_rng2 hk hk2 with q | q <;> simp only [am_exec, am_inv, am_pop, am_lk, q] <;> rfl) pg213 rfl rfl rfl
theorem sJ22_append_2_13 : Rn r 268 13 [l0, l1, l2] [vI x0] h Q ↔ Rn r 268 14 [l0, l1, some (vI x0)] [] h Q := Rn_nx pg268 rfl rfl
theorem sJ22_append_2_14 : Rn r 268 14 [some (vR z), l1, l2] [] h Q ↔ Rn r 268 15 [some (vR z), l1, l2] [vR z] h Q := Rn_nx pg268 rfl rfl
theorem sJ22_append_2_15 : Rn r 268 15 [some (vR z), l1, l2] [vR z0] h Q ↔ Rn r 268 16 [some (vR z), l1, l2] [vR z, vR z0] h Q := Rn_nx pg268 rfl rfl
theorem sJ22_append_2_16 (hk : hK h a0 = 16) : Rn r 268 16 [l0, l1, l2] [vR (some a0), vR z1] h Q ↔ Rn r 268 19 [l0, l1, l2] [vI (hI h a0 3), vR z1] h Q := Rn_nx pg268 rfl (if_pos ⟨(hk ▸ Nat.le_refl _), (hk ▸ Nat.le_refl _)⟩)
theorem sJ22_append_2_19 : Rn r 268 19 [l0, l1, some (vI x)] [vI x0, vR z1] h Q ↔ Rn r 268 20 [l0, l1, some (vI x)] [vI x, vI x0, vR z1] h Q := Rn_nx pg268 rfl rfl
theorem sJ22_append_2_20 : Rn r 268 20 [l0, l1, l2] [vI x0, vI x1, vR z2] h Q ↔ Rn r 268 21 [l0, l1, l2] [vI (x1 + x0), vR z2] h Q := Rn_nx pg268 rfl rfl
theorem sJ22_append_2_21 (hk : hK h a1 = 16) : Rn r 268 21 [l0, l1, l2] [vI x0, vR (some a1)] h Q ↔ Cl r 153 [vR (some a1), vI x0] h (Kt r 268 24 [l0, l1, l2] [] Q) := Rn_call pg268 rfl (by simp only [am_exec, am_inv, am_pop, am_lk, hk]; rfl) pg153 rfl rfl rfl
theorem sJ22_append_2_24 : Rn r 268 24 [some (vR z), l1, l2] [] h Q ↔ Rn r 268 25 [some (vR z), l1, l2] [vR z] h Q := Rn_nx pg268 rfl rfl
theorem sJ22_append_2_25 : Rn r 268 25 [some (vR z), l1, l2] [vR z0] h Q ↔ Rn r 268 26 [some (vR z), l1, l2] [vR z, vR z0] h Q := Rn_nx pg268 rfl rfl
theorem sJ22_append_2_26 (hk : hK h a0 = 16) : Rn r 268 26 [l0, l1, l2] [vR (some a0), vR z1] h Q ↔ Rn r 268 29 [l0, l1, l2] [vI (hI h a0 3), vR z1] h Q := Rn_nx pg268 rfl (if_pos ⟨(hk ▸ Nat.le_refl _), (hk ▸ Nat.le_refl _)⟩)
theorem sJ22_append_2_29 : Rn r 268 29 [l0, some (vR z), l2] [vI x0, vR z1] h Q ↔ Rn r 268 30 [l0, some (vR z), l2] [vR z, vI x0, vR z1] h Q := Rn_nx pg268 rfl rfl
theorem sJ22_append_2_30 (hk : hK h a2 = 16) : Rn r 268 30 [l0, l1, l2] [vR z0, vI x1, vR (some a2)] h Q ↔ Cl r 296 [vR (some a2), vI x1, vR z0] h (Kt r 268 33 [l0, l1, l2] [] Q) := Rn_call pg268 rfl (by simp only [am_exec, am_inv, am_pop, am_lk, hk]; rfl) pg296 rfl rfl rfl
theorem sJ22_append_2_33 : Rn r 268 33 [some (vR z), l1, l2] [] h Q ↔ Rn r 268 34 [some (vR z), l1, l2] [vR z] h Q := Rn_nx pg268 rfl rfl
theorem sJ22_append_2_34 : Rn r 268 34 [l0, l1, l2] [vR z0] h Q ↔ Rn r 268 35 [l0, l1, l2] [vR z0, vR z0] h Q := Rn_nx pg268 rfl rfl
theorem sJ22_append_2_35 (hk : hK h a0 = 16) : Rn r 268 35 [l0, l1, l2] [vR (some a0), vR z1] h Q ↔ Rn r 268 38 [l0, l1, l2] [vI (hI h a0 3), vR z1] h Q := Rn_nx pg268 rfl (if_pos ⟨(hk ▸ Nat.le_refl _), (hk ▸ Nat.le_refl _)⟩)
theorem sJ22_append_2_38 : Rn r 268 38 [l0, l1, some (vI x)] [vI x0, vR z1] h Q ↔ Rn r 268 39 [l0, l1, some (vI x)] [vI x, vI x0, vR z1] h Q := Rn_nx pg268 rfl rfl
theorem sJ22_append_2_39 : Rn r 268 39 [l0, l1, l2] [vI x0, vI x1, vR z2] h Q ↔ Rn r 268 40 [l0, l1, l2] [vI (x1 + x0), vR z2] h Q := Rn_nx pg268 rfl rfl
theorem sJ22_append_2_40 (hk : hK h a1 = 16) : Rn r 268 40 [l0, l1, l2] [vI x0, vR (some a1)] h Q ↔ Rn r 268 43 [l0, l1, l2] [] (putI h a1 3 x0) Q := Rn_nx pg268 rfl ((if_pos ⟨(hk ▸ Nat.le_refl _), (hk ▸ Nat.le_refl _)⟩).trans rfl)
theorem sJ22_append_2_43 : Rn r 268 43 [some (vR z), l1, l2] [] h Q ↔ Rn r 268 44 [some (vR z), l1, l2] [vR z] h Q := Rn_nx pg268 rfl rfl
theorem sJ22_append_2_44 : Rn r 268 44 [l0, l1, l2] [vR z0] h Q ↔ Q (Sum.inl (some (vR z0))) h := Rn_end pg268 rfl rfl
/-! 269 java/lang/String.toString()Ljava/lang/String; -/
theorem eJ13_toString : Cl r 269 [vR z0] h Q ↔ Rn r 269 0 [some (vR z0)] [] h Q := Cl_in pg269 rfl
theorem sJ13_toString_0 : Rn r 269 0 [some (vR z)] [] h Q ↔ Rn r 269 1 [some (vR z)] [vR z] h Q := Rn_nx pg269 rfl rfl
theorem sJ13_toString_1 : Rn r 269 1 [l0] [vR z0] h Q ↔ Q (Sum.inl (some (vR z0))) h := Rn_end pg269 rfl rfl
/-! 270 java/lang/String.indexOf(Ljava/lang/String;)I -/
theorem eJ13_indexOf_3 : Cl r 270 [vR z0, vR z1] h Q ↔ Rn r 270 0 [some (vR z0), some (vR z1), none] [] h Q := Cl_in pg270 rfl
theorem sJ13_indexOf_3_0 : Rn r 270 0 [some (vR z), l1, l2] [] h Q ↔ Rn r 270 1 [some (vR z), l1, l2] [vR z] h Q := Rn_nx pg270 rfl rfl
theorem sJ13_indexOf_3_1 (hk : 10 ≤ hK h a0) (hk2 : hK h a0 ≤ 11) : Rn r 270 1 [l0, l1, l2] [vR (some a0)] h Q ↔ Cl r 264 [vR (some a0)] h (Kt r 270 4 [l0, l1, l2] [] Q) := Rn_call pg270 rfl (by rcases am_rng2 hk hk2 with q | q <;> simp only [am_exec, am_inv, am_pop, am_lk, q] <;> rfl) pg264 rfl rfl rfl
theorem sJ13_indexOf_3_4 : Rn r 270 4 [l0, l1, l2] [vI x0] h Q ↔ Rn r 270 5 [l0, l1, some (vI x0)] [] h Q := Rn_nx pg270 rfl rfl
theorem sJ13_indexOf_3_5 : Rn r 270 5 [l0, l1, some (vI x)] [] h Q ↔ Rn r 270 6 [l0, l1, some (vI x)] [vI x] h Q := Rn_nx pg270 rfl rfl
theorem sJ13_indexOf_3_6 : Rn r 270 6 [l0, some (vR z), l2] [vI x0] h Q ↔ Rn r 270 7 [l0, some (vR z), l2] [vR z, vI x0] h Q := Rn_nx pg270 rfl rfl
theorem sJ13_indexOf_3_7 (hk : 10 ≤ hK h a0) (hk2 : hK h a0 ≤ 11) : Rn r 270 7 [l0, l1, l2] [vR (some a0), vI x1] h Q ↔ Cl r 264 [vR (some a0)] h (Kt r 270 10 [l0, l1, l2] [vI x1] Q) := Rn_call pg270 rfl (by rcases am_rng2 hk hk2 with q | q <;> simp only [am_exec, am_inv, am_pop, am_lk, q] <;> rfl) pg264 rfl rfl rfl
theorem sJ13_indexOf_3_10 : Rn r 270 10 [l0, l1, l2] [vI x0, vI x1] h Q ↔ if x1 ≠ x0 then Rn r 270 46 [l0, l1, l2] [] h Q else Rn r 270 13 [l0, l1, l2] [] h Q := Rn_if pg270 rfl rfl rfl
theorem sJ13_indexOf_3_13 : Rn r 270 13 [some (vR z), l1, l2] [] h Q ↔ Rn r 270 14 [some (vR z), l1, l2] [vR z] h Q := Rn_nx pg270 rfl rfl
theorem sJ13_indexOf_3_14 (hk : 10 ≤ hK h a0) (hk2 : hK h a0 ≤ 11) : Rn r 270 14 [l0, l1, l2] [vR (some a0)] h Q ↔ Cl r 212 [vR (some a0)] h (Kt r 270 17 [l0, l1, l2] [] Q) := Rn_call pg270 rfl (by rcases am_rng2 hk hk2 with q | q <;> simp only [am_exec, am_inv, am_pop, am_lk, q] <;> rfl) pg212 rfl rfl rfl
theorem sJ13_indexOf_3_17 : Rn r 270 17 [l0, l1, l2] [vI x0] h Q ↔ if x0 = 0 then Rn r 270 34 [l0, l1, l2] [] h Q else Rn r 270 20 [l0, l1, l2] [] h Q := Rn_if pg270 rfl rfl rfl
theorem sJ13_indexOf_3_20 : Rn r 270 20 [some (vR z), l1, l2] [] h Q ↔ Rn r 270 21 [some (vR z), l1, l2] [vR z] h Q := Rn_nx pg270 rfl rfl
theorem sJ13_indexOf_3_21 (hk : 10 ≤ hK h a0) (hk2 : hK h a0 ≤ 11) : Rn r 270 21 [l0, l1, l2] [vR (some a0)] h Q ↔ Rn r 270 24 [l0, l1, l2] [vR (hR h a0 0)] h Q := Rn_nx pg270 rfl (if_pos ⟨hk, hk2⟩)
theorem sJ13_indexOf_3_24 : Rn r 270 24 [l0, some (vR z), l2] [vR z0] h Q ↔ Rn r 270 25 [l0, some (vR z), l2] [vR z, vR z0] h Q := Rn_nx pg270 rfl rfl
theorem sJ13_indexOf_3_25 (hk : 10 ≤ hK h a0) (hk2 : hK h a0 ≤ 11) : Rn r 270 25 [l0, l1, l2] [vR (some a0), vR z1] h Q ↔ Rn r 270 28 [l0, l1, l2] [vR (hR h a0 0), vR z1] h Q := Rn_nx pg270 rfl (if_pos ⟨hk, hk2⟩)
theorem sJ13_indexOf_3_28 : Rn r 270 28 [l0, l1, l2] [vR z0, vR z1] h Q ↔ Cl r 297 [vR z1, vR z0] h (Kt r 270 31 [l0, l1, l2] [] Q) := Rn_call pg270 rfl rfl pg297 rfl rfl rfl
theorem sJ13_indexOf_3_31 : Rn r 270 31 [l0, l1, l2] [vI x0] h Q ↔ Rn r 270 45 [l0, l1, l2] [vI x0] h Q := Rn_nx pg270 rfl rfl
theorem sJ13_indexOf_3_34 : Rn r 270 34 [some (vR z), l1, l2] [] h Q ↔ Rn r 270 35 [some (vR z), l1, l2] [vR z] h Q := Rn_nx pg270 rfl rfl
theorem sJ13_indexOf_3_35 (hk : 10 ≤ hK h a0) (hk2 : hK h a0 ≤ 11) : Rn r 270 35 [l0, l1, l2] [vR (some a0)] h Q ↔ Rn r 270 38 [l0, l1, l2] [vR (hR h a0 0)] h Q := Rn_nx pg270 rfl (if_pos ⟨hk, hk2⟩)
theorem sJ13_indexOf_3_38 : Rn r 270 38 [l0, some (vR z), l2] [vR z0] h Q ↔ Rn r 270 39 [l0, some (vR z), l2] [vR z, vR z0] h Q := Rn_nx pg270 rfl rfl
theorem sJ13_indexOf_3_39 (hk : 10 ≤ hK h a0) (hk2 : hK h a0 ≤ 11) : Rn r 270 39 [l0, l1, l2] [vR (some a0), vR z1] h Q ↔ Rn r 270 42 [l0, l1, l2] [vR (hR h a0 0), vR z1] h Q := Rn_nx pg270 rfl (if_pos ⟨hk, hk2⟩)
theorem sJ13_indexOf_3_45 : Rn r 270 45 [l0, l1, l2] [vI x0] h Q ↔ Q (Sum.inl (some (vI x0))) h := Rn_end pg270 rfl rfl
theorem sJ13_indexOf_3_46 : Rn r 270 46 [l0, l1, some (vI x)] [] h Q ↔ Rn r 270 47 [l0, l1, some (vI x)] [vI x] h Q := Rn_nx pg270 rfl rfl
theorem sJ13_indexOf_3_47 : Rn r 270 47 [l0, l1, l2] [vI x0] h Q ↔ if x0 ≠ 0 then Rn r 270 52 [l0, l1, l2] [] h Q else Rn r 270 50 [l0, l1, l2] [] h Q := Rn_if pg270 rfl rfl rfl
theorem sJ13_indexOf_3_50 : Rn r 270 50 [l0, l1, l2] [] h Q ↔ Rn r 270 51 [l0, l1, l2] [vI (-1)] h Q := Rn_nx pg270 rfl rfl
theorem sJ13_indexOf_3_51 : Rn r 270 51 [l0, l1, l2] [vI x0] h Q ↔ Q (Sum.inl (some (vI x0))) h := Rn_end pg270 rfl rfl
theorem sJ13_indexOf_3_52 : Rn r 270 52 [some (vR z), l1, l2] [] h Q ↔ Rn r 270 53 [some (vR z), l1, l2] [vR z] h Q := Rn_nx pg270 rfl rfl
theorem sJ13_indexOf_3_53 (hk : 10 ≤ hK h a0) (hk2 : hK h a0 ≤ 11) : Rn r 270 53 [l0, l1, l2] [vR (some a0)] h Q ↔ Rn r 270 56 [l0, l1, l2] [vR (hR h a0 0)] h Q := Rn_nx pg270 rfl (if_pos ⟨hk, hk2⟩)
theorem sJ13_indexOf_3_56 : Rn r 270 56 [l0, some (vR z), l2] [vR z0] h Q ↔ Rn r 270 57 [l0, some (vR z), l2] [vR z, vR z0] h Q := Rn_nx pg270 rfl rfl
theorem sJ13_indexOf_3_57 (hk : 10 ≤ hK h a0) (hk2 : hK h a0 ≤ 11) : Rn r 270 57 [l0, l1, l2] [vR (some a0), vR z1] h Q ↔ Rn r 270 60 [l0, l1, l2] [vR (hR h a0 0), vR z1] h Q := Rn_nx pg270 rfl (if_pos ⟨hk, hk2⟩)
theorem sJ13_indexOf_3_63 : Rn r 270 63 [l0, l1, l2] [vI x0] h Q ↔ Q (Sum.inl (some (vI x0))) h := Rn_end pg270 rfl rfl
/-! 271 ThrowRules$Group.<init>()V -/
theorem eX13_init : Cl r 271 [vR z0] h Q ↔ Rn r 271 0 [some (vR z0)] [] h Q := Cl_in pg271 rfl
theorem sX13_init_0 : Rn r 271 0 [some (vR z)] [] h Q ↔ Rn r 271 1 [some (vR z)] [vR z] h Q := Rn_nx pg271 rfl rfl
theorem sX13_init_1 (hk : 0 < hK h a0) (hk2 : hK h a0 < 40) : Rn r 271 1 [l0] [vR (some a0)] h Q ↔ Cl r 298 [vR (some a0)] h (Kt r 271 4 [l0] [] Q) := Rn_call pg271 rfl (if_pos ⟨hk, hk2⟩) pg298 rfl rfl rfl
theorem sX13_init_4 : Rn r 271 4 [l0] [] h Q ↔ Q (Sum.inl none) h := Rn_end pg271 rfl rfl
/-! 272 ThrowRules$Plain.<init>(I)V -/
theorem eX14_init : Cl r 272 [vR z0, vI x1] h Q ↔ Rn r 272 0 [some (vR z0), some (vI x1)] [] h Q := Cl_in pg272 rfl
theorem sX14_init_0 : Rn r 272 0 [some (vR z), l1] [] h Q ↔ Rn r 272 1 [some (vR z), l1] [vR z] h Q := Rn_nx pg272 rfl rfl
theorem sX14_init_1 (hk : 0 < hK h a0) (hk2 : hK h a0 < 40) : Rn r 272 1 [l0, l1] [vR (some a0)] h Q ↔ Cl r 298 [vR (some a0)] h (Kt r 272 4 [l0, l1] [] Q) := Rn_call pg272 rfl (if_pos ⟨hk, hk2⟩) pg298 rfl rfl rfl
theorem sX14_init_4 : Rn r 272 4 [some (vR z), l1] [] h Q ↔ Rn r 272 5 [some (vR z), l1] [vR z] h Q := Rn_nx pg272 rfl rfl
theorem sX14_init_5 : Rn r 272 5 [l0, some (vI x)] [vR z0] h Q ↔ Rn r 272 6 [l0, some (vI x)] [vI x, vR z0] h Q := Rn_nx pg272 rfl rfl
theorem sX14_init_6 (hk : hK h a1 = 30) : Rn r 272 6 [l0, l1] [vI x0, vR (some a1)] h Q ↔ Rn r 272 9 [l0, l1] [] (putI h a1 5 x0) Q := Rn_nx pg272 rfl ((if_pos ⟨(hk ▸ Nat.le_refl _), (hk ▸ Nat.le_refl _)⟩).trans rfl)
theorem sX14_init_9 : Rn r 272 9 [l0, l1] [] h Q ↔ Q (Sum.inl none) h := Rn_end pg272 rfl rfl
/-! 273 ThrowRules$Call.<init>()V -/
theorem eX15_init : Cl r 273 [vR z0] h Q ↔ Rn r 273 0 [some (vR z0)] [] h Q := Cl_in pg273 rfl
theorem sX15_init_0 : Rn r 273 0 [some (vR z)] [] h Q ↔ Rn r 273 1 [some (vR z)] [vR z] h Q := Rn_nx pg273 rfl rfl
theorem sX15_init_1 (hk : 0 < hK h a0) (hk2 : hK h a0 < 40) : Rn r 273 1 [l0] [vR (some a0)] h Q ↔ Cl r 298 [vR (some a0)] h (Kt r 273 4 [l0] [] Q) := Rn_call pg273 rfl (if_pos ⟨hk, hk2⟩) pg298 rfl rfl rfl
theorem sX15_init_4 : Rn r 273 4 [l0] [] h Q ↔ Q (Sum.inl none) h := Rn_end pg273 rfl rfl
/-! 274 ThrowRules$Throw.<init>()V -/
theorem eX16_init : Cl r 274 [vR z0] h Q ↔ Rn r 274 0 [some (vR z0)] [] h Q := Cl_in pg274 rfl
theorem sX16_init_0 : Rn r 274 0 [some (vR z)] [] h Q ↔ Rn r 274 1 [some (vR z)] [vR z] h Q := Rn_nx pg274 rfl rfl
theorem sX16_init_1 (hk : 0 < hK h a0) (hk2 : hK h a0 < 40) : Rn r 274 1 [l0] [vR (some a0)] h Q ↔ Cl r 298 [vR (some a0)] h (Kt r 274 4 [l0] [] Q) := Rn_call pg274 rfl (if_pos ⟨hk, hk2⟩) pg298 rfl rfl rfl
theorem sX16_init_4 : Rn r 274 4 [l0] [] h Q ↔ Q (Sum.inl none) h := Rn_end pg274 rfl rfl
/-! 275 ThrowRules$If.<init>()V -/
theorem eX17_init : Cl r 275 [vR z0] h Q ↔ Rn r 275 0 [some (vR z0)] [] h Q := Cl_in pg275 rfl
theorem sX17_init_0 : Rn r 275 0 [some (vR z)] [] h Q ↔ Rn r 275 1 [some (vR z)] [vR z] h Q := Rn_nx pg275 rfl rfl
theorem sX17_init_1 (hk : 0 < hK h a0) (hk2 : hK h a0 < 40) : Rn r 275 1 [l0] [vR (some a0)] h Q ↔ Cl r 298 [vR (some a0)] h (Kt r 275 4 [l0] [] Q) := Rn_call pg275 rfl (if_pos ⟨hk, hk2⟩) pg298 rfl rfl rfl
theorem sX17_init_4 : Rn r 275 4 [l0] [] h Q ↔ Q (Sum.inl none) h := Rn_end pg275 rfl rfl
/-! 276 ThrowRules$Loop.<init>(Z)V -/
theorem eX18_init : Cl r 276 [vR z0, vI x1] h Q ↔ Rn r 276 0 [some (vR z0), some (vI x1)] [] h Q := Cl_in pg276 rfl
theorem sX18_init_0 : Rn r 276 0 [some (vR z), l1] [] h Q ↔ Rn r 276 1 [some (vR z), l1] [vR z] h Q := Rn_nx pg276 rfl rfl
theorem sX18_init_1 (hk : 0 < hK h a0) (hk2 : hK h a0 < 40) : Rn r 276 1 [l0, l1] [vR (some a0)] h Q ↔ Cl r 298 [vR (some a0)] h (Kt r 276 4 [l0, l1] [] Q) := Rn_call pg276 rfl (if_pos ⟨hk, hk2⟩) pg298 rfl rfl rfl
theorem sX18_init_4 : Rn r 276 4 [some (vR z), l1] [] h Q ↔ Rn r 276 5 [some (vR z), l1] [vR z] h Q := Rn_nx pg276 rfl rfl
theorem sX18_init_5 : Rn r 276 5 [l0, l1] [vR z0] h Q ↔ Rn r 276 8 [l0, l1] [vR (some (hN h)), vR z0] (newC h 4 3) Q := Rn_nx pg276 rfl rfl
theorem sX18_init_8 : Rn r 276 8 [l0, l1] [vR z0, vR z1] h Q ↔ Rn r 276 9 [l0, l1] [vR z0, vR z0, vR z1] h Q := Rn_nx pg276 rfl rfl
theorem sX18_init_9 : Rn r 276 9 [l0, l1] [vR z0, vR z1, vR z2] h Q ↔ Rn r 276 10 [l0, l1] [vI 1, vR z0, vR z1, vR z2] h Q := Rn_nx pg276 rfl rfl
theorem sX18_init_10 (hk : 0 < hK h a1) (hk2 : hK h a1 < 40) : Rn r 276 10 [l0, l1] [vI x0, vR (some a1), vR z2, vR z3] h Q ↔ Cl r 172 [vR (some a1), vI x0] h (Kt r 276 13 [l0, l1] [vR z2, vR z3] Q) := Rn_call pg276 rfl (if_pos ⟨hk, hk2⟩) pg172 rfl rfl rfl
theorem sX18_init_13 (hk : hK h a1 = 34) : Rn r 276 13 [l0, l1] [vR z0, vR (some a1)] h Q ↔ Rn r 276 16 [l0, l1] [] (putR h a1 7 z0) Q := Rn_nx pg276 rfl ((if_pos ⟨(hk ▸ Nat.le_refl _), (hk ▸ Nat.le_refl _)⟩).trans rfl)
theorem sX18_init_16 : Rn r 276 16 [some (vR z), l1] [] h Q ↔ Rn r 276 17 [some (vR z), l1] [vR z] h Q := Rn_nx pg276 rfl rfl
theorem sX18_init_17 : Rn r 276 17 [l0, some (vI x)] [vR z0] h Q ↔ Rn r 276 18 [l0, some (vI x)] [vI x, vR z0] h Q := Rn_nx pg276 rfl rfl
theorem sX18_init_18 (hk : hK h a1 = 34) (hf : am_fit 4 x0 = true) : Rn r 276 18 [l0, l1] [vI x0, vR (some a1)] h Q ↔ Rn r 276 21 [l0, l1] [] (putI h a1 5 x0) Q := Rn_nx pg276 rfl ((if_pos ⟨(hk ▸ Nat.le_refl _), (hk ▸ Nat.le_refl _)⟩).trans (if_pos hf))
theorem sX18_init_21 : Rn r 276 21 [l0, l1] [] h Q ↔ Q (Sum.inl none) h := Rn_end pg276 rfl rfl
/-! 277 ThrowRules$Break.<init>()V -/
theorem eX19_init : Cl r 277 [vR z0] h Q ↔ Rn r 277 0 [some (vR z0)] [] h Q := Cl_in pg277 rfl
theorem sX19_init_0 : Rn r 277 0 [some (vR z)] [] h Q ↔ Rn r 277 1 [some (vR z)] [vR z] h Q := Rn_nx pg277 rfl rfl
theorem sX19_init_1 (hk : 0 < hK h a0) (hk2 : hK h a0 < 40) : Rn r 277 1 [l0] [vR (some a0)] h Q ↔ Cl r 298 [vR (some a0)] h (Kt r 277 4 [l0] [] Q) := Rn_call pg277 rfl (if_pos ⟨hk, hk2⟩) pg298 rfl rfl rfl
theorem sX19_init_4 : Rn r 277 4 [some (vR z)] [] h Q ↔ Rn r 277 5 [some (vR z)] [vR z] h Q := Rn_nx pg277 rfl rfl
theorem sX19_init_5 : Rn r 277 5 [l0] [vR z0] h Q ↔ Rn r 277 8 [l0] [vR (some (hN h)), vR z0] (newC h 4 3) Q := Rn_nx pg277 rfl rfl
theorem sX19_init_8 : Rn r 277 8 [l0] [vR z0, vR z1] h Q ↔ Rn r 277 9 [l0] [vR z0, vR z0, vR z1] h Q := Rn_nx pg277 rfl rfl
theorem sX19_init_9 : Rn r 277 9 [l0] [vR z0, vR z1, vR z2] h Q ↔ Rn r 277 10 [l0] [vI 1, vR z0, vR z1, vR z2] h Q := Rn_nx pg277 rfl rfl
theorem sX19_init_10 (hk : 0 < hK h a1) (hk2 : hK h a1 < 40) : Rn r 277 10 [l0] [vI x0, vR (some a1), vR z2, vR z3] h Q ↔ Cl r 172 [vR (some a1), vI x0] h (Kt r 277 13 [l0] [vR z2, vR z3] Q) := Rn_call pg277 rfl (if_pos ⟨hk, hk2⟩) pg172 rfl rfl rfl
theorem sX19_init_13 (hk : hK h a1 = 35) : Rn r 277 13 [l0] [vR z0, vR (some a1)] h Q ↔ Rn r 277 16 [l0] [] (putR h a1 6 z0) Q := Rn_nx pg277 rfl ((if_pos ⟨(hk ▸ Nat.le_refl _), (hk ▸ Nat.le_refl _)⟩).trans rfl)
theorem sX19_init_16 : Rn r 277 16 [l0] [] h Q ↔ Q (Sum.inl none) h := Rn_end pg277 rfl rfl
/-! 278 ThrowRules$Try.<init>()V -/
theorem eX20_init : Cl r 278 [vR z0] h Q ↔ Rn r 278 0 [some (vR z0)] [] h Q := Cl_in pg278 rfl
theorem sX20_init_0 : Rn r 278 0 [some (vR z)] [] h Q ↔ Rn r 278 1 [some (vR z)] [vR z] h Q := Rn_nx pg278 rfl rfl
theorem sX20_init_1 (hk : 0 < hK h a0) (hk2 : hK h a0 < 40) : Rn r 278 1 [l0] [vR (some a0)] h Q ↔ Cl r 298 [vR (some a0)] h (Kt r 278 4 [l0] [] Q) := Rn_call pg278 rfl (if_pos ⟨hk, hk2⟩) pg298 rfl rfl rfl
theorem sX20_init_4 : Rn r 278 4 [some (vR z)] [] h Q ↔ Rn r 278 5 [some (vR z)] [vR z] h Q := Rn_nx pg278 rfl rfl
theorem sX20_init_5 : Rn r 278 5 [l0] [vR z0] h Q ↔ Rn r 278 8 [l0] [vR (some (hN h)), vR z0] (newC h 4 3) Q := Rn_nx pg278 rfl rfl
theorem sX20_init_8 : Rn r 278 8 [l0] [vR z0, vR z1] h Q ↔ Rn r 278 9 [l0] [vR z0, vR z0, vR z1] h Q := Rn_nx pg278 rfl rfl
theorem sX20_init_9 : Rn r 278 9 [l0] [vR z0, vR z1, vR z2] h Q ↔ Rn r 278 10 [l0] [vI 1, vR z0, vR z1, vR z2] h Q := Rn_nx pg278 rfl rfl
theorem sX20_init_10 (hk : 0 < hK h a1) (hk2 : hK h a1 < 40) : Rn r 278 10 [l0] [vI x0, vR (some a1), vR z2, vR z3] h Q ↔ Cl r 172 [vR (some a1), vI x0] h (Kt r 278 13 [l0] [vR z2, vR z3] Q) := Rn_call pg278 rfl (if_pos ⟨hk, hk2⟩) pg172 rfl rfl rfl
theorem sX20_init_13 (hk : hK h a1 = 36) : Rn r 278 13 [l0] [vR z0, vR (some a1)] h Q ↔ Rn r 278 16 [l0] [] (putR h a1 5 z0) Q := Rn_nx pg278 rfl ((if_pos ⟨(hk ▸ Nat.le_refl _), (hk ▸ Nat.le_refl _)⟩).trans rfl)
theorem sX20_init_16 : Rn r 278 16 [some (vR z)] [] h Q ↔ Rn r 278 17 [some (vR z)] [vR z] h Q := Rn_nx pg278 rfl rfl
theorem sX20_init_17 : Rn r 278 17 [l0] [vR z0] h Q ↔ Rn r 278 20 [l0] [vR (some (hN h)), vR z0] (newC h 4 3) Q := Rn_nx pg278 rfl rfl
theorem sX20_init_20 : Rn r 278 20 [l0] [vR z0, vR z1] h Q ↔ Rn r 278 21 [l0] [vR z0, vR z0, vR z1] h Q := Rn_nx pg278 rfl rfl
theorem sX20_init_21 : Rn r 278 21 [l0] [vR z0, vR z1, vR z2] h Q ↔ Rn r 278 22 [l0] [vI 1, vR z0, vR z1, vR z2] h Q := Rn_nx pg278 rfl rfl
theorem sX20_init_22 (hk : 0 < hK h a1) (hk2 : hK h a1 < 40) : Rn r 278 22 [l0] [vI x0, vR (some a1), vR z2, vR z3] h Q ↔ Cl r 172 [vR (some a1), vI x0] h (Kt r 278 25 [l0] [vR z2, vR z3] Q) := Rn_call pg278 rfl (if_pos ⟨hk, hk2⟩) pg172 rfl rfl rfl
theorem sX20_init_25 (hk : hK h a1 = 36) : Rn r 278 25 [l0] [vR z0, vR (some a1)] h Q ↔ Rn r 278 28 [l0] [] (putR h a1 6 z0) Q := Rn_nx pg278 rfl ((if_pos ⟨(hk ▸ Nat.le_refl _), (hk ▸ Nat.le_refl _)⟩).trans rfl)
theorem sX20_init_28 : Rn r 278 28 [some (vR z)] [] h Q ↔ Rn r 278 29 [some (vR z)] [vR z] h Q := Rn_nx pg278 rfl rfl
theorem sX20_init_29 : Rn r 278 29 [l0] [vR z0] h Q ↔ Rn r 278 32 [l0] [vR (some (hN h)), vR z0] (newC h 4 3) Q := Rn_nx pg278 rfl rfl
theorem sX20_init_32 : Rn r 278 32 [l0] [vR z0, vR z1] h Q ↔ Rn r 278 33 [l0] [vR z0, vR z0, vR z1] h Q := Rn_nx pg278 rfl rfl
theorem sX20_init_33 : Rn r 278 33 [l0] [vR z0, vR z1, vR z2] h Q ↔ Rn r 278 34 [l0] [vI 1, vR z0, vR z1, vR z2] h Q := Rn_nx pg278 rfl rfl
theorem sX20_init_34 (hk : 0 < hK h a1) (hk2 : hK h a1 < 40) : Rn r 278 34 [l0] [vI x0, vR (some a1), vR z2, vR z3] h Q ↔ Cl r 172 [vR (some a1), vI x0] h (Kt r 278 37 [l0] [vR z2, vR z3] Q) := Rn_call pg278 rfl (if_pos ⟨hk, hk2⟩) pg172 rfl rfl rfl
theorem sX20_init_37 (hk : hK h a1 = 36) : Rn r 278 37 [l0] [vR z0, vR (some a1)] h Q ↔ Rn r 278 40 [l0] [] (putR h a1 7 z0) Q := Rn_nx pg278 rfl ((if_pos ⟨(hk ▸ Nat.le_refl _), (hk ▸ Nat.le_refl _)⟩).trans rfl)
theorem sX20_init_40 : Rn r 278 40 [some (vR z)] [] h Q ↔ Rn r 278 41 [some (vR z)] [vR z] h Q := Rn_nx pg278 rfl rfl
theorem sX20_init_41 : Rn r 278 41 [l0] [vR z0] h Q ↔ Rn r 278 44 [l0] [vR (some (hN h)), vR z0] (newC h 4 3) Q := Rn_nx pg278 rfl rfl
theorem sX20_init_44 : Rn r 278 44 [l0] [vR z0, vR z1] h Q ↔ Rn r 278 45 [l0] [vR z0, vR z0, vR z1] h Q := Rn_nx pg278 rfl rfl
theorem sX20_init_45 : Rn r 278 45 [l0] [vR z0, vR z1, vR z2] h Q ↔ Rn r 278 46 [l0] [vI 2, vR z0, vR z1, vR z2] h Q := Rn_nx pg278 rfl rfl
theorem sX20_init_46 (hk : 0 < hK h a1) (hk2 : hK h a1 < 40) : Rn r 278 46 [l0] [vI x0, vR (some a1), vR z2, vR z3] h Q ↔ Cl r 172 [vR (some a1), vI x0] h (Kt r 278 49 [l0] [vR z2, vR z3] Q) := Rn_call pg278 rfl (if_pos ⟨hk, hk2⟩) pg172 rfl rfl rfl
theorem sX20_init_49 (hk : hK h a1 = 36) : Rn r 278 49 [l0] [vR z0, vR (some a1)] h Q ↔ Rn r 278 52 [l0] [] (putR h a1 9 z0) Q := Rn_nx pg278 rfl ((if_pos ⟨(hk ▸ Nat.le_refl _), (hk ▸ Nat.le_refl _)⟩).trans rfl)
theorem sX20_init_52 : Rn r 278 52 [l0] [] h Q ↔ Q (Sum.inl none) h := Rn_end pg278 rfl rfl
/-! 279 ThrowRules$Run.<init>()V -/
theorem eX21_init : Cl r 279 [vR z0] h Q ↔ Rn r 279 0 [some (vR z0)] [] h Q := Cl_in pg279 rfl
theorem sX21_init_0 : Rn r 279 0 [some (vR z)] [] h Q ↔ Rn r 279 1 [some (vR z)] [vR z] h Q := Rn_nx pg279 rfl rfl
theorem sX21_init_1 (hk : 0 < hK h a0) (hk2 : hK h a0 < 40) : Rn r 279 1 [l0] [vR (some a0)] h Q ↔ Cl r 298 [vR (some a0)] h (Kt r 279 4 [l0] [] Q) := Rn_call pg279 rfl (if_pos ⟨hk, hk2⟩) pg298 rfl rfl rfl
theorem sX21_init_4 : Rn r 279 4 [some (vR z)] [] h Q ↔ Rn r 279 5 [some (vR z)] [vR z] h Q := Rn_nx pg279 rfl rfl
theorem sX21_init_5 : Rn r 279 5 [l0] [vR z0] h Q ↔ Rn r 279 8 [l0] [vR (some (hN h)), vR z0] (newC h 4 3) Q := Rn_nx pg279 rfl rfl
theorem sX21_init_8 : Rn r 279 8 [l0] [vR z0, vR z1] h Q ↔ Rn r 279 9 [l0] [vR z0, vR z0, vR z1] h Q := Rn_nx pg279 rfl rfl
theorem sX21_init_9 : Rn r 279 9 [l0] [vR z0, vR z1, vR z2] h Q ↔ Rn r 279 10 [l0] [vI 1, vR z0, vR z1, vR z2] h Q := Rn_nx pg279 rfl rfl
theorem sX21_init_10 (hk : 0 < hK h a1) (hk2 : hK h a1 < 40) : Rn r 279 10 [l0] [vI x0, vR (some a1), vR z2, vR z3] h Q ↔ Cl r 172 [vR (some a1), vI x0] h (Kt r 279 13 [l0] [vR z2, vR z3] Q) := Rn_call pg279 rfl (if_pos ⟨hk, hk2⟩) pg172 rfl rfl rfl
theorem sX21_init_13 (hk : hK h a1 = 37) : Rn r 279 13 [l0] [vR z0, vR (some a1)] h Q ↔ Rn r 279 16 [l0] [] (putR h a1 6 z0) Q := Rn_nx pg279 rfl ((if_pos ⟨(hk ▸ Nat.le_refl _), (hk ▸ Nat.le_refl _)⟩).trans rfl)
theorem sX21_init_16 : Rn r 279 16 [l0] [] h Q ↔ Q (Sum.inl none) h := Rn_end pg279 rfl rfl
/-! 280 ThrowRules$Reader.look(Ljava/lang/String;LThrowRules$Around;)V -/
theorem eX1_look : Cl r 280 [vR z0, vR z1, vR z2] h Q ↔ Rn r 280 0 [some (vR z0), some (vR z1), some (vR z2), none, none] [] h Q := Cl_in pg280 rfl
theorem sX1_look_0 : Rn r 280 0 [some (vR z), l1, l2, l3, l4] [] h Q ↔ Rn r 280 1 [some (vR z), l1, l2, l3, l4] [vR z] h Q := Rn_nx pg280 rfl rfl
theorem sX1_look_1 : Rn r 280 1 [l0, l1, l2, l3, l4] [vR z0] h Q ↔ Rn r 280 2 [l0, l1, l2, l3, l4] [vR none, vR z0] h Q := Rn_nx pg280 rfl rfl
theorem sX1_look_2 (hk : hK h a1 = 2) : Rn r 280 2 [l0, l1, l2, l3, l4] [vR z0, vR (some a1)] h Q ↔ Rn r 280 5 [l0, l1, l2, l3, l4] [] (putR h a1 15 z0) Q := Rn_nx pg280 rfl ((if_pos ⟨(hk ▸ Nat.le_refl _), (hk ▸ Nat.le_refl _)⟩).trans rfl)
theorem sX1_look_5 : Rn r 280 5 [some (vR z), l1, l2, l3, l4] [] h Q ↔ Rn r 280 6 [some (vR z), l1, l2, l3, l4] [vR z] h Q := Rn_nx pg280 rfl rfl
theorem sX1_look_6 : Rn r 280 6 [l0, l1, l2, l3, l4] [vR z0] h Q ↔ Rn r 280 7 [l0, l1, l2, l3, l4] [vI 0, vR z0] h Q := Rn_nx pg280 rfl rfl
theorem sX1_look_7 (hk : hK h a1 = 2) (hf : am_fit 4 x0 = true) : Rn r 280 7 [l0, l1, l2, l3, l4] [vI x0, vR (some a1)] h Q ↔ Rn r 280 10 [l0, l1, l2, l3, l4] [] (putI h a1 16 x0) Q := Rn_nx pg280 rfl ((if_pos ⟨(hk ▸ Nat.le_refl _), (hk ▸ Nat.le_refl _)⟩).trans (if_pos hf))
theorem sX1_look_10 : Rn r 280 10 [l0, l1, l2, l3, l4] [] h Q ↔ Rn r 280 11 [l0, l1, l2, l3, l4] [vI 0] h Q := Rn_nx pg280 rfl rfl
theorem sX1_look_11 : Rn r 280 11 [l0, l1, l2, l3, l4] [vI x0] h Q ↔ Rn r 280 12 [l0, l1, l2, some (vI x0), l4] [] h Q := Rn_nx pg280 rfl rfl
theorem sX1_look_12 : Rn r 280 12 [l0, l1, some (vR z), l3, l4] [] h Q ↔ Rn r 280 13 [l0, l1, some (vR z), l3, l4] [vR z] h Q := Rn_nx pg280 rfl rfl
theorem sX1_look_13 : Rn r 280 13 [l0, l1, l2, l3, l4] [vR z0] h Q ↔ Rn r 280 15 [l0, l1, l2, l3, some (vR z0)] [] h Q := Rn_nx pg280 rfl rfl
theorem sX1_look_15 : Rn r 280 15 [l0, l1, l2, l3, some (vR z)] [] h Q ↔ Rn r 280 17 [l0, l1, l2, l3, some (vR z)] [vR z] h Q := Rn_nx pg280 rfl rfl
theorem sX1_look_17 : Rn r 280 17 [l0, l1, l2, l3, l4] [vR z0] h Q ↔ if z0 = none then Rn r 280 82 [l0, l1, l2, l3, l4] [] h Q else Rn r 280 20 [l0, l1, l2, l3, l4] [] h Q := Rn_if pg280 rfl rfl rfl
theorem sX1_look_20 : Rn r 280 20 [some (vR z), l1, l2, l3, l4] [] h Q ↔ Rn r 280 21 [some (vR z), l1, l2, l3, l4] [vR z] h Q := Rn_nx pg280 rfl rfl
theorem sX1_look_21 (hk : hK h a0 = 2) : Rn r 280 21 [l0, l1, l2, l3, l4] [vR (some a0)] h Q ↔ Rn r 280 24 [l0, l1, l2, l3, l4] [vR (hR h a0 15)] h Q := Rn_nx pg280 rfl (if_pos ⟨(hk ▸ Nat.le_refl _), (hk ▸ Nat.le_refl _)⟩)
theorem sX1_look_24 : Rn r 280 24 [l0, l1, l2, l3, l4] [vR z0] h Q ↔ if z0 ≠ none then Rn r 280 82 [l0, l1, l2, l3, l4] [] h Q else Rn r 280 27 [l0, l1, l2, l3, l4] [] h Q := Rn_if pg280 rfl rfl rfl
theorem sX1_look_27 : Rn r 280 27 [l0, l1, l2, l3, some (vR z)] [] h Q ↔ Rn r 280 29 [l0, l1, l2, l3, some (vR z)] [vR z] h Q := Rn_nx pg280 rfl rfl
theorem sX1_look_29 (hk : hK h a0 = 20) : Rn r 280 29 [l0, l1, l2, l3, l4] [vR (some a0)] h Q ↔ Rn r 280 32 [l0, l1, l2, l3, l4] [vR (hR h a0 2)] h Q := Rn_nx pg280 rfl (if_pos ⟨(hk ▸ Nat.le_refl _), (hk ▸ Nat.le_refl _)⟩)
theorem sX1_look_32 : Rn r 280 32 [l0, l1, l2, l3, l4] [vR z0] h Q ↔ if z0 = none then Rn r 280 64 [l0, l1, l2, l3, l4] [] h Q else Rn r 280 35 [l0, l1, l2, l3, l4] [] h Q := Rn_if pg280 rfl rfl rfl
theorem sX1_look_35 : Rn r 280 35 [l0, l1, l2, l3, some (vR z)] [] h Q ↔ Rn r 280 37 [l0, l1, l2, l3, some (vR z)] [vR z] h Q := Rn_nx pg280 rfl rfl
theorem sX1_look_37 (hk : hK h a0 = 20) : Rn r 280 37 [l0, l1, l2, l3, l4] [vR (some a0)] h Q ↔ Rn r 280 40 [l0, l1, l2, l3, l4] [vR (hR h a0 2)] h Q := Rn_nx pg280 rfl (if_pos ⟨(hk ▸ Nat.le_refl _), (hk ▸ Nat.le_refl _)⟩)
theorem sX1_look_40 (hk : hK h a0 = 22) : Rn r 280 40 [l0, l1, l2, l3, l4] [vR (some a0)] h Q ↔ Rn r 280 43 [l0, l1, l2, l3, l4] [vR (hR h a0 2)] h Q := Rn_nx pg280 rfl (if_pos ⟨(hk ▸ Nat.le_refl _), (hk ▸ Nat.le_refl _)⟩)
theorem sX1_look_43 : Rn r 280 43 [l0, some (vR z), l2, l3, l4] [vR z0] h Q ↔ Rn r 280 44 [l0, some (vR z), l2, l3, l4] [vR z, vR z0] h Q := Rn_nx pg280 rfl rfl
theorem sX1_look_44 (hk : 10 ≤ hK h a1) (hk2 : hK h a1 ≤ 11) : Rn r 280 44 [l0, l1, l2, l3, l4] [vR z0, vR (some a1)] h Q ↔ Cl r 125 [vR (some a1), vR z0] h (Kt r 280 47 [l0, l1, l2, l3, l4] [] Q) := Rn_call pg280 rfl (by rcases am_rng2 hk hk2 with q | q <;> simp only [am_exec, am_inv, am_pop, am_lk, q] <;> rfl) pg125 rfl rfl rfl
theorem sX1_look_47 : Rn r 280 47 [l0, l1, l2, l3, l4] [vI x0] h Q ↔ if x0 = 0 then Rn r 280 64 [l0, l1, l2, l3, l4] [] h Q else Rn r 280 50 [l0, l1, l2, l3, l4] [] h Q := Rn_if pg280 rfl rfl rfl
theorem sX1_look_50 : Rn r 280 50 [some (vR z), l1, l2, l3, l4] [] h Q ↔ Rn r 280 51 [some (vR z), l1, l2, l3, l4] [vR z] h Q := Rn_nx pg280 rfl rfl
theorem sX1_look_51 : Rn r 280 51 [l0, l1, l2, l3, some (vR z)] [vR z0] h Q ↔ Rn r 280 53 [l0, l1, l2, l3, some (vR z)] [vR z, vR z0] h Q := Rn_nx pg280 rfl rfl
theorem sX1_look_53 (hk : hK h a0 = 20) : Rn r 280 53 [l0, l1, l2, l3, l4] [vR (some a0), vR z1] h Q ↔ Rn r 280 56 [l0, l1, l2, l3, l4] [vR (hR h a0 2), vR z1] h Q := Rn_nx pg280 rfl (if_pos ⟨(hk ▸ Nat.le_refl _), (hk ▸ Nat.le_refl _)⟩)
theorem sX1_look_56 (hk : hK h a1 = 2) : Rn r 280 56 [l0, l1, l2, l3, l4] [vR z0, vR (some a1)] h Q ↔ Rn r 280 59 [l0, l1, l2, l3, l4] [] (putR h a1 15 z0) Q := Rn_nx pg280 rfl ((if_pos ⟨(hk ▸ Nat.le_refl _), (hk ▸ Nat.le_refl _)⟩).trans rfl)
theorem sX1_look_59 : Rn r 280 59 [some (vR z), l1, l2, l3, l4] [] h Q ↔ Rn r 280 60 [some (vR z), l1, l2, l3, l4] [vR z] h Q := Rn_nx pg280 rfl rfl
theorem sX1_look_60 : Rn r 280 60 [l0, l1, l2, some (vI x), l4] [vR z0] h Q ↔ Rn r 280 61 [l0, l1, l2, some (vI x), l4] [vI x, vR z0] h Q := Rn_nx pg280 rfl rfl
theorem sX1_look_61 (hk : hK h a1 = 2) (hf : am_fit 4 x0 = true) : Rn r 280 61 [l0, l1, l2, l3, l4] [vI x0, vR (some a1)] h Q ↔ Rn r 280 64 [l0, l1, l2, l3, l4] [] (putI h a1 16 x0) Q := Rn_nx pg280 rfl ((if_pos ⟨(hk ▸ Nat.le_refl _), (hk ▸ Nat.le_refl _)⟩).trans (if_pos hf))
theorem sX1_look_64 : Rn r 280 64 [l0, l1, l2, some (vI x), l4] [] h Q ↔ Rn r 280 65 [l0, l1, l2, some (vI x), l4] [vI x] h Q := Rn_nx pg280 rfl rfl
theorem sX1_look_65 : Rn r 280 65 [l0, l1, l2, l3, some (vR z)] [vI x0] h Q ↔ Rn r 280 67 [l0, l1, l2, l3, some (vR z)] [vR z, vI x0] h Q := Rn_nx pg280 rfl rfl
theorem sX1_look_67 (hk : hK h a0 = 20) : Rn r 280 67 [l0, l1, l2, l3, l4] [vR (some a0), vI x1] h Q ↔ Rn r 280 70 [l0, l1, l2, l3, l4] [vI (hI h a0 3), vI x1] h Q := Rn_nx pg280 rfl (if_pos ⟨(hk ▸ Nat.le_refl _), (hk ▸ Nat.le_refl _)⟩)
theorem sX1_look_70 : Rn r 280 70 [l0, l1, l2, l3, l4] [vI x0, vI x1] h Q ↔ Rn r 280 71 [l0, l1, l2, l3, l4] [vI (x1 ||| x0)] h Q := Rn_nx pg280 rfl rfl
theorem sX1_look_71 : Rn r 280 71 [l0, l1, l2, l3, l4] [vI x0] h Q ↔ Rn r 280 72 [l0, l1, l2, some (vI x0), l4] [] h Q := Rn_nx pg280 rfl rfl
theorem sX1_look_72 : Rn r 280 72 [l0, l1, l2, l3, some (vR z)] [] h Q ↔ Rn r 280 74 [l0, l1, l2, l3, some (vR z)] [vR z] h Q := Rn_nx pg280 rfl rfl
theorem sX1_look_74 (hk : hK h a0 = 20) : Rn r 280 74 [l0, l1, l2, l3, l4] [vR (some a0)] h Q ↔ Rn r 280 77 [l0, l1, l2, l3, l4] [vR (hR h a0 0)] h Q := Rn_nx pg280 rfl (if_pos ⟨(hk ▸ Nat.le_refl _), (hk ▸ Nat.le_refl _)⟩)
theorem sX1_look_77 : Rn r 280 77 [l0, l1, l2, l3, l4] [vR z0] h Q ↔ Rn r 280 79 [l0, l1, l2, l3, some (vR z0)] [] h Q := Rn_nx pg280 rfl rfl
theorem sX1_look_79 : Rn r 280 79 [l0, l1, l2, l3, l4] [] h Q ↔ Rn r 280 15 [l0, l1, l2, l3, l4] [] h Q := Rn_nx pg280 rfl rfl
theorem sX1_look_82 : Rn r 280 82 [l0, l1, l2, l3, l4] [] h Q ↔ Q (Sum.inl none) h := Rn_end pg280 rfl rfl
/-! 281 java/lang/Integer.valueOf(I)Ljava/lang/Integer; -/
theorem eJ12_valueOf : Cl r 281 [vI x0] h Q ↔ Rn r 281 0 [some (vI x0)] [] h Q := Cl_in pg281 rfl
theorem sJ12_valueOf_0 : Rn r 281 0 [some (vI x)] [] h Q ↔ Rn r 281 1 [some (vI x)] [vI x] h Q := Rn_nx pg281 rfl rfl
theorem sJ12_valueOf_1 : Rn r 281 1 [l0] [vI x0] h Q ↔ Rn r 281 3 [l0] [vI (-128), vI x0] h Q := Rn_nx pg281 rfl rfl
theorem sJ12_valueOf_3 : Rn r 281 3 [l0] [vI x0, vI x1] h Q ↔ if x1 < x0 then Rn r 281 23 [l0] [] h Q else Rn r 281 6 [l0] [] h Q := Rn_if pg281 rfl rfl rfl
theorem sJ12_valueOf_6 : Rn r 281 6 [some (vI x)] [] h Q ↔ Rn r 281 7 [some (vI x)] [vI x] h Q := Rn_nx pg281 rfl rfl
theorem sJ12_valueOf_7 : Rn r 281 7 [l0] [vI x0] h Q ↔ Rn r 281 10 [l0] [vI 127, vI x0] h Q := Rn_nx pg281 rfl rfl
theorem sJ12_valueOf_10 : Rn r 281 10 [l0] [vI x0, vI x1] h Q ↔ if x0 < x1 then Rn r 281 23 [l0] [] h Q else Rn r 281 13 [l0] [] h Q := Rn_if pg281 rfl rfl rfl
theorem sJ12_valueOf_13 : Rn r 281 13 [l0] [] h Q ↔ Rn r 281 16 [l0] [vR (some (hE h 32))] h Q := Rn_nx pg281 rfl rfl
theorem sJ12_valueOf_16 : Rn r 281 16 [some (vI x)] [vR z0] h Q ↔ Rn r 281 17 [some (vI x)] [vI x, vR z0] h Q := Rn_nx pg281 rfl rfl
theorem sJ12_valueOf_17 : Rn r 281 17 [l0] [vI x0, vR z1] h Q ↔ Rn r 281 20 [l0] [vI 128, vI x0, vR z1] h Q := Rn_nx pg281 rfl rfl
theorem sJ12_valueOf_20 : Rn r 281 20 [l0] [vI x0, vI x1, vR z2] h Q ↔ Rn r 281 21 [l0] [vI (x1 + x0), vR z2] h Q := Rn_nx pg281 rfl rfl
theorem sJ12_valueOf_21 (hk : 46 ≤ hK h a1) (hk2 : hK h a1 ≤ 49) (hx : ¬ (x0 < 0 ∨ hL h a1 ≤ x0.toNatClampNeg)) : Rn r 281 21 [l0] [vI x0, vR (some a1)] h Q ↔ Rn r 281 22 [l0] [vR (hR h a1 x0.toNatClampNeg)] h Q := Rn_nx pg281 rfl ((if_pos ⟨hk, hk2⟩).trans (if_neg hx))
theorem sJ12_valueOf_22 : Rn r 281 22 [l0] [vR z0] h Q ↔ Q (Sum.inl (some (vR z0))) h := Rn_end pg281 rfl rfl
theorem sJ12_valueOf_23 : Rn r 281 23 [l0] [] h Q ↔ Rn r 281 26 [l0] [vR (some (hN h))] (newC h 8 1) Q := Rn_nx pg281 rfl rfl
theorem sJ12_valueOf_26 : Rn r 281 26 [l0] [vR z0] h Q ↔ Rn r 281 27 [l0] [vR z0, vR z0] h Q := Rn_nx pg281 rfl rfl
theorem sJ12_valueOf_27 : Rn r 281 27 [some (vI x)] [vR z0, vR z1] h Q ↔ Rn r 281 28 [some (vI x)] [vI x, vR z0, vR z1] h Q := Rn_nx pg281 rfl rfl
theorem sJ12_valueOf_28 (hk : 0 < hK h a1) (hk2 : hK h a1 < 40) : Rn r 281 28 [l0] [vI x0, vR (some a1), vR z2] h Q ↔ Cl r 299 [vR (some a1), vI x0] h (Kt r 281 31 [l0] [vR z2] Q) := Rn_call pg281 rfl (if_pos ⟨hk, hk2⟩) pg299 rfl rfl rfl
theorem sJ12_valueOf_31 : Rn r 281 31 [l0] [vR z0] h Q ↔ Q (Sum.inl (some (vR z0))) h := Rn_end pg281 rfl rfl
/-! 282 java/util/ArrayList.isEmpty()Z -/
theorem eJ5_isEmpty : Cl r 282 [vR z0] h Q ↔ Rn r 282 0 [some (vR z0)] [] h Q := Cl_in pg282 rfl
theorem sJ5_isEmpty_0 : Rn r 282 0 [some (vR z)] [] h Q ↔ Rn r 282 1 [some (vR z)] [vR z] h Q := Rn_nx pg282 rfl rfl
theorem sJ5_isEmpty_1 (hk : hK h a0 = 4) : Rn r 282 1 [l0] [vR (some a0)] h Q ↔ Rn r 282 4 [l0] [vI (hI h a0 2)] h Q := Rn_nx pg282 rfl (if_pos ⟨(hk ▸ Nat.le_refl _), (hk ▸ Nat.le_refl _)⟩)
theorem sJ5_isEmpty_4 : Rn r 282 4 [l0] [vI x0] h Q ↔ if x0 ≠ 0 then Rn r 282 11 [l0] [] h Q else Rn r 282 7 [l0] [] h Q := Rn_if pg282 rfl rfl rfl
theorem sJ5_isEmpty_7 : Rn r 282 7 [l0] [] h Q ↔ Rn r 282 8 [l0] [vI 1] h Q := Rn_nx pg282 rfl rfl
theorem sJ5_isEmpty_8 : Rn r 282 8 [l0] [vI x0] h Q ↔ Rn r 282 12 [l0] [vI x0] h Q := Rn_nx pg282 rfl rfl
theorem sJ5_isEmpty_11 : Rn r 282 11 [l0] [] h Q ↔ Rn r 282 12 [l0] [vI 0] h Q := Rn_nx pg282 rfl rfl
theorem sJ5_isEmpty_12 (hf : am_fit 4 x0 = true) : Rn r 282 12 [l0] [vI x0] h Q ↔ Q (Sum.inl (some (vI x0))) h := Rn_end pg282 rfl (if_pos hf)
/-! 283 ThrowRules$Reader.caught(LThrowRules$Try;LThrowRules$Around;)V -/
theorem eX1_caught : Cl r 283 [vR z0, vR z1, vR z2] h Q ↔ Rn r 283 0 [some (vR z0), some (vR z1), some (vR z2), none, none, none] [] h Q := Cl_in pg283 rfl
theorem sX1_caught_0 : Rn r 283 0 [l0, l1, l2, l3, l4, l5] [] h Q ↔ Rn r 283 3 [l0, l1, l2, l3, l4, l5] [vR (some (hN h))] (newC h 22 6) Q := Rn_nx pg283 rfl rfl
theorem sX1_caught_3 : Rn r 283 3 [l0, l1, l2, l3, l4, l5] [vR z0] h Q ↔ Rn r 283 4 [l0, l1, l2, l3, l4, l5] [vR z0, vR z0] h Q := Rn_nx pg283 rfl rfl
theorem sX1_caught_4 : Rn r 283 4 [l0, some (vR z), l2, l3, l4, l5] [vR z0, vR z1] h Q ↔ Rn r 283 5 [l0, some (vR z), l2, l3, l4, l5] [vR z, vR z0, vR z1] h Q := Rn_nx pg283 rfl rfl
theorem sX1_caught_5 (hk : 0 < hK h a1) (hk2 : hK h a1 < 40) : Rn r 283 5 [l0, l1, l2, l3, l4, l5] [vR z0, vR (some a1), vR z2] h Q ↔ Cl r 300 [vR (some a1), vR z0] h (Kt r 283 8 [l0, l1, l2, l3, l4, l5] [vR z2] Q) := Rn_call pg283 rfl (if_pos ⟨hk, hk2⟩) pg300 rfl rfl rfl
theorem sX1_caught_8 : Rn r 283 8 [l0, l1, l2, l3, l4, l5] [vR z0] h Q ↔ Rn r 283 9 [l0, l1, l2, some (vR z0), l4, l5] [] h Q := Rn_nx pg283 rfl rfl
theorem sX1_caught_9 : Rn r 283 9 [l0, some (vR z), l2, l3, l4, l5] [] h Q ↔ Rn r 283 10 [l0, some (vR z), l2, l3, l4, l5] [vR z] h Q := Rn_nx pg283 rfl rfl
theorem sX1_caught_10 (hk : hK h a0 = 36) : Rn r 283 10 [l0, l1, l2, l3, l4, l5] [vR (some a0)] h Q ↔ Rn r 283 13 [l0, l1, l2, l3, l4, l5] [vR (hR h a0 9)] h Q := Rn_nx pg283 rfl (if_pos ⟨(hk ▸ Nat.le_refl _), (hk ▸ Nat.le_refl _)⟩)
theorem sX1_caught_13 : Rn r 283 13 [l0, l1, l2, some (vR z), l4, l5] [vR z0] h Q ↔ Rn r 283 14 [l0, l1, l2, some (vR z), l4, l5] [vR z, vR z0] h Q := Rn_nx pg283 rfl rfl
theorem sX1_caught_14 (hk : hK h a1 = 4) : Rn r 283 14 [l0, l1, l2, l3, l4, l5] [vR z0, vR (some a1)] h Q ↔ Cl r 119 [vR (some a1), vR z0] h (Kt r 283 17 [l0, l1, l2, l3, l4, l5] [] Q) := Rn_call pg283 rfl (by simp only [am_exec, am_inv, am_pop, am_lk, hk]; rfl) pg119 rfl rfl rfl
theorem sX1_caught_17 : Rn r 283 17 [l0, l1, l2, l3, l4, l5] [vI x0] h Q ↔ Rn r 283 18 [l0, l1, l2, l3, l4, l5] [] h Q := Rn_nx pg283 rfl rfl
theorem sX1_caught_18 : Rn r 283 18 [some (vR z), l1, l2, l3, l4, l5] [] h Q ↔ Rn r 283 19 [some (vR z), l1, l2, l3, l4, l5] [vR z] h Q := Rn_nx pg283 rfl rfl
theorem sX1_caught_19 (hk : hK h a0 = 2) : Rn r 283 19 [l0, l1, l2, l3, l4, l5] [vR (some a0)] h Q ↔ Cl r 80 [vR (some a0)] h (Kt r 283 22 [l0, l1, l2, l3, l4, l5] [] Q) := Rn_call pg283 rfl (by simp only [am_exec, am_inv, am_pop, am_lk, hk]; rfl) pg80 rfl rfl rfl
theorem sX1_caught_22 : Rn r 283 22 [some (vR z), l1, l2, l3, l4, l5] [] h Q ↔ Rn r 283 23 [some (vR z), l1, l2, l3, l4, l5] [vR z] h Q := Rn_nx pg283 rfl rfl
theorem sX1_caught_23 : Rn r 283 23 [l0, l1, l2, l3, l4, l5] [vR z0] h Q ↔ Rn r 283 25 [l0, l1, l2, l3, l4, l5] [vI 40, vR z0] h Q := Rn_nx pg283 rfl rfl
theorem sX1_caught_25 (hk : hK h a1 = 2) : Rn r 283 25 [l0, l1, l2, l3, l4, l5] [vI x0, vR (some a1)] h Q ↔ Cl r 128 [vR (some a1), vI x0] h (Kt r 283 28 [l0, l1, l2, l3, l4, l5] [] Q) := Rn_call pg283 rfl (by simp only [am_exec, am_inv, am_pop, am_lk, hk]; rfl) pg128 rfl rfl rfl
theorem sX1_caught_28 : Rn r 283 28 [some (vR z), l1, l2, l3, l4, l5] [] h Q ↔ Rn r 283 29 [some (vR z), l1, l2, l3, l4, l5] [vR z] h Q := Rn_nx pg283 rfl rfl
theorem sX1_caught_29 (hk : hK h a0 = 2) : Rn r 283 29 [l0, l1, l2, l3, l4, l5] [vR (some a0)] h Q ↔ Cl r 126 [vR (some a0)] h (Kt r 283 32 [l0, l1, l2, l3, l4, l5] [] Q) := Rn_call pg283 rfl (by simp only [am_exec, am_inv, am_pop, am_lk, hk]; rfl) pg126 rfl rfl rfl
theorem sX1_caught_32 : Rn r 283 32 [l0, l1, l2, l3, l4, l5] [vR z0] h Q ↔ Rn r 283 34 [l0, l1, l2, l3, some (vR z0), l5] [] h Q := Rn_nx pg283 rfl rfl
theorem sX1_caught_34 : Rn r 283 34 [l0, l1, l2, some (vR z), l4, l5] [] h Q ↔ Rn r 283 35 [l0, l1, l2, some (vR z), l4, l5] [vR z] h Q := Rn_nx pg283 rfl rfl
theorem sX1_caught_35 (hk : hK h a0 = 22) : Rn r 283 35 [l0, l1, l2, l3, l4, l5] [vR (some a0)] h Q ↔ Rn r 283 38 [l0, l1, l2, l3, l4, l5] [vR (hR h a0 1)] h Q := Rn_nx pg283 rfl (if_pos ⟨(hk ▸ Nat.le_refl _), (hk ▸ Nat.le_refl _)⟩)
theorem sX1_caught_38 : Rn r 283 38 [l0, l1, l2, l3, l4, l5] [vR z0] h Q ↔ Rn r 283 41 [l0, l1, l2, l3, l4, l5] [vR (some (hN h)), vR z0] (newC h 19 2) Q := Rn_nx pg283 rfl rfl
theorem sX1_caught_41 : Rn r 283 41 [l0, l1, l2, l3, l4, l5] [vR z0, vR z1] h Q ↔ Rn r 283 42 [l0, l1, l2, l3, l4, l5] [vR z0, vR z0, vR z1] h Q := Rn_nx pg283 rfl rfl
theorem sX1_caught_42 : Rn r 283 42 [some (vR z), l1, l2, l3, l4, l5] [vR z0, vR z1, vR z2] h Q ↔ Rn r 283 43 [some (vR z), l1, l2, l3, l4, l5] [vR z, vR z0, vR z1, vR z2] h Q := Rn_nx pg283 rfl rfl
theorem sX1_caught_43 : Rn r 283 43 [l0, l1, l2, l3, some (vR z), l5] [vR z0, vR z1, vR z2, vR z3] h Q ↔ Rn r 283 45 [l0, l1, l2, l3, some (vR z), l5] [vR z, vR z0, vR z1, vR z2, vR z3] h Q := Rn_nx pg283 rfl rfl
theorem sX1_caught_45 : Rn r 283 45 [some (vR z), l1, l2, l3, l4, l5] [vR z0, vR z1, vR z2, vR z3, vR z4] h Q ↔ Rn r 283 46 [some (vR z), l1, l2, l3, l4, l5] [vR z, vR z0, vR z1, vR z2, vR z3, vR z4] h Q := Rn_nx pg283 rfl rfl
theorem sX1_caught_46 (hk : hK h a0 = 2) : Rn r 283 46 [l0, l1, l2, l3, l4, l5] [vR (some a0), vR z1, vR z2, vR z3, vR z4, vR z5] h Q ↔ Rn r 283 49 [l0, l1, l2, l3, l4, l5] [vI (hI h a0 14), vR z1, vR z2, vR z3, vR z4, vR z5] h Q := Rn_nx pg283 rfl (if_pos ⟨(hk ▸ Nat.le_refl _), (hk ▸ Nat.le_refl _)⟩)
theorem sX1_caught_49 (hk : hK h a2 = 2) : Rn r 283 49 [l0, l1, l2, l3, l4, l5] [vI x0, vR z1, vR (some a2), vR z3, vR z4, vR z5] h Q ↔ Cl r 129 [vR (some a2), vR z1, vI x0] h (Kt r 283 52 [l0, l1, l2, l3, l4, l5] [vR z3, vR z4, vR z5] Q) := Rn_call pg283 rfl (by simp only [am_exec, am_inv, am_pop, am_lk, hk]; rfl) pg129 rfl rfl rfl
theorem sX1_caught_52 : Rn r 283 52 [some (vR z), l1, l2, l3, l4, l5] [vR z0, vR z1, vR z2, vR z3] h Q ↔ Rn r 283 53 [some (vR z), l1, l2, l3, l4, l5] [vR z, vR z0, vR z1, vR z2, vR z3] h Q := Rn_nx pg283 rfl rfl
theorem sX1_caught_53 (hk : hK h a0 = 2) : Rn r 283 53 [l0, l1, l2, l3, l4, l5] [vR (some a0), vR z1, vR z2, vR z3, vR z4] h Q ↔ Rn r 283 56 [l0, l1, l2, l3, l4, l5] [vI (hI h a0 14), vR z1, vR z2, vR z3, vR z4] h Q := Rn_nx pg283 rfl (if_pos ⟨(hk ▸ Nat.le_refl _), (hk ▸ Nat.le_refl _)⟩)
theorem sX1_caught_56 (hk : 0 < hK h a2) (hk2 : hK h a2 < 40) : Rn r 283 56 [l0, l1, l2, l3, l4, l5] [vI x0, vR z1, vR (some a2), vR z3, vR z4] h Q ↔ Cl r 173 [vR (some a2), vR z1, vI x0] h (Kt r 283 59 [l0, l1, l2, l3, l4, l5] [vR z3, vR z4] Q) := Rn_call pg283 rfl (if_pos ⟨hk, hk2⟩) pg173 rfl rfl rfl
theorem sX1_caught_59 (hk : hK h a1 = 4) : Rn r 283 59 [l0, l1, l2, l3, l4, l5] [vR z0, vR (some a1)] h Q ↔ Cl r 119 [vR (some a1), vR z0] h (Kt r 283 62 [l0, l1, l2, l3, l4, l5] [] Q) := Rn_call pg283 rfl (by simp only [am_exec, am_inv, am_pop, am_lk, hk]; rfl) pg119 rfl rfl rfl
theorem sX1_caught_62 : Rn r 283 62 [l0, l1, l2, l3, l4, l5] [vI x0] h Q ↔ Rn r 283 63 [l0, l1, l2, l3, l4, l5] [] h Q := Rn_nx pg283 rfl rfl
theorem sX1_caught_63 : Rn r 283 63 [some (vR z), l1, l2, l3, l4, l5] [] h Q ↔ Rn r 283 64 [some (vR z), l1, l2, l3, l4, l5] [vR z] h Q := Rn_nx pg283 rfl rfl
theorem sX1_caught_64 (hk : hK h a0 = 2) : Rn r 283 64 [l0, l1, l2, l3, l4, l5] [vR (some a0)] h Q ↔ Rn r 283 67 [l0, l1, l2, l3, l4, l5] [vI (hI h a0 6)] h Q := Rn_nx pg283 rfl (if_pos ⟨(hk ▸ Nat.le_refl _), (hk ▸ Nat.le_refl _)⟩)
theorem sX1_caught_67 : Rn r 283 67 [l0, l1, l2, l3, l4, l5] [vI x0] h Q ↔ Rn r 283 69 [l0, l1, l2, l3, l4, l5] [vI 124, vI x0] h Q := Rn_nx pg283 rfl rfl
theorem sX1_caught_69 : Rn r 283 69 [l0, l1, l2, l3, l4, l5] [vI x0, vI x1] h Q ↔ if x1 ≠ x0 then Rn r 283 134 [l0, l1, l2, l3, l4, l5] [] h Q else Rn r 283 72 [l0, l1, l2, l3, l4, l5] [] h Q := Rn_if pg283 rfl rfl rfl
theorem sX1_caught_72 : Rn r 283 72 [some (vR z), l1, l2, l3, l4, l5] [] h Q ↔ Rn r 283 73 [some (vR z), l1, l2, l3, l4, l5] [vR z] h Q := Rn_nx pg283 rfl rfl
theorem sX1_caught_73 (hk : hK h a0 = 2) : Rn r 283 73 [l0, l1, l2, l3, l4, l5] [vR (some a0)] h Q ↔ Cl r 80 [vR (some a0)] h (Kt r 283 76 [l0, l1, l2, l3, l4, l5] [] Q) := Rn_call pg283 rfl (by simp only [am_exec, am_inv, am_pop, am_lk, hk]; rfl) pg80 rfl rfl rfl
theorem sX1_caught_76 : Rn r 283 76 [some (vR z), l1, l2, l3, l4, l5] [] h Q ↔ Rn r 283 77 [some (vR z), l1, l2, l3, l4, l5] [vR z] h Q := Rn_nx pg283 rfl rfl
theorem sX1_caught_77 : Rn r 283 77 [l0, l1, l2, some (vR z), l4, l5] [vR z0] h Q ↔ Rn r 283 78 [l0, l1, l2, some (vR z), l4, l5] [vR z, vR z0] h Q := Rn_nx pg283 rfl rfl
theorem sX1_caught_78 (hk : hK h a0 = 22) : Rn r 283 78 [l0, l1, l2, l3, l4, l5] [vR (some a0), vR z1] h Q ↔ Rn r 283 81 [l0, l1, l2, l3, l4, l5] [vR (hR h a0 1), vR z1] h Q := Rn_nx pg283 rfl (if_pos ⟨(hk ▸ Nat.le_refl _), (hk ▸ Nat.le_refl _)⟩)
theorem sX1_caught_81 (hk : hK h a0 = 4) : Rn r 283 81 [l0, l1, l2, l3, l4, l5] [vR (some a0), vR z1] h Q ↔ Cl r 34 [vR (some a0)] h (Kt r 283 84 [l0, l1, l2, l3, l4, l5] [vR z1] Q) := Rn_call pg283 rfl (by simp only [am_exec, am_inv, am_pop, am_lk, hk]; rfl) pg34 rfl rfl rfl
theorem sX1_caught_84 : Rn r 283 84 [l0, l1, l2, l3, l4, l5] [vI x0, vR z1] h Q ↔ Rn r 283 85 [l0, l1, l2, l3, l4, l5] [vI 4, vI x0, vR z1] h Q := Rn_nx pg283 rfl rfl
theorem sX1_caught_85 : Rn r 283 85 [l0, l1, l2, l3, l4, l5] [vI x0, vI x1, vR z2] h Q ↔ if x0 ≤ x1 then Rn r 283 92 [l0, l1, l2, l3, l4, l5] [vR z2] h Q else Rn r 283 88 [l0, l1, l2, l3, l4, l5] [vR z2] h Q := Rn_if pg283 rfl rfl rfl
theorem sX1_caught_88 : Rn r 283 88 [l0, l1, l2, l3, l4, l5] [vR z0] h Q ↔ Rn r 283 89 [l0, l1, l2, l3, l4, l5] [vI 1, vR z0] h Q := Rn_nx pg283 rfl rfl
theorem sX1_caught_89 : Rn r 283 89 [l0, l1, l2, l3, l4, l5] [vI x0, vR z1] h Q ↔ Rn r 283 93 [l0, l1, l2, l3, l4, l5] [vI x0, vR z1] h Q := Rn_nx pg283 rfl rfl
theorem sX1_caught_92 : Rn r 283 92 [l0, l1, l2, l3, l4, l5] [vR z0] h Q ↔ Rn r 283 93 [l0, l1, l2, l3, l4, l5] [vI 0, vR z0] h Q := Rn_nx pg283 rfl rfl
theorem sX1_caught_93 (hk : hK h a1 = 2) : Rn r 283 93 [l0, l1, l2, l3, l4, l5] [vI x0, vR (some a1)] h Q ↔ Cl r 83 [vR (some a1), vI x0] h (Kt r 283 96 [l0, l1, l2, l3, l4, l5] [] Q) := Rn_call pg283 rfl (by simp only [am_exec, am_inv, am_pop, am_lk, hk]; rfl) pg83 rfl rfl rfl
theorem sX1_caught_96 : Rn r 283 96 [some (vR z), l1, l2, l3, l4, l5] [] h Q ↔ Rn r 283 97 [some (vR z), l1, l2, l3, l4, l5] [vR z] h Q := Rn_nx pg283 rfl rfl
theorem sX1_caught_97 (hk : hK h a0 = 2) : Rn r 283 97 [l0, l1, l2, l3, l4, l5] [vR (some a0)] h Q ↔ Cl r 126 [vR (some a0)] h (Kt r 283 100 [l0, l1, l2, l3, l4, l5] [] Q) := Rn_call pg283 rfl (by simp only [am_exec, am_inv, am_pop, am_lk, hk]; rfl) pg126 rfl rfl rfl
theorem sX1_caught_100 : Rn r 283 100 [l0, l1, l2, l3, l4, l5] [vR z0] h Q ↔ Rn r 283 102 [l0, l1, l2, l3, some (vR z0), l5] [] h Q := Rn_nx pg283 rfl rfl
theorem sX1_caught_102 : Rn r 283 102 [l0, l1, l2, some (vR z), l4, l5] [] h Q ↔ Rn r 283 103 [l0, l1, l2, some (vR z), l4, l5] [vR z] h Q := Rn_nx pg283 rfl rfl
theorem sX1_caught_103 (hk : hK h a0 = 22) : Rn r 283 103 [l0, l1, l2, l3, l4, l5] [vR (some a0)] h Q ↔ Rn r 283 106 [l0, l1, l2, l3, l4, l5] [vR (hR h a0 1)] h Q := Rn_nx pg283 rfl (if_pos ⟨(hk ▸ Nat.le_refl _), (hk ▸ Nat.le_refl _)⟩)
theorem sX1_caught_106 : Rn r 283 106 [l0, l1, l2, l3, l4, l5] [vR z0] h Q ↔ Rn r 283 109 [l0, l1, l2, l3, l4, l5] [vR (some (hN h)), vR z0] (newC h 19 2) Q := Rn_nx pg283 rfl rfl
theorem sX1_caught_109 : Rn r 283 109 [l0, l1, l2, l3, l4, l5] [vR z0, vR z1] h Q ↔ Rn r 283 110 [l0, l1, l2, l3, l4, l5] [vR z0, vR z0, vR z1] h Q := Rn_nx pg283 rfl rfl
theorem sX1_caught_110 : Rn r 283 110 [some (vR z), l1, l2, l3, l4, l5] [vR z0, vR z1, vR z2] h Q ↔ Rn r 283 111 [some (vR z), l1, l2, l3, l4, l5] [vR z, vR z0, vR z1, vR z2] h Q := Rn_nx pg283 rfl rfl
theorem sX1_caught_111 : Rn r 283 111 [l0, l1, l2, l3, some (vR z), l5] [vR z0, vR z1, vR z2, vR z3] h Q ↔ Rn r 283 113 [l0, l1, l2, l3, some (vR z), l5] [vR z, vR z0, vR z1, vR z2, vR z3] h Q := Rn_nx pg283 rfl rfl
theorem sX1_caught_113 : Rn r 283 113 [some (vR z), l1, l2, l3, l4, l5] [vR z0, vR z1, vR z2, vR z3, vR z4] h Q ↔ Rn r 283 114 [some (vR z), l1, l2, l3, l4, l5] [vR z, vR z0, vR z1, vR z2, vR z3, vR z4] h Q := Rn_nx pg283 rfl rfl
theorem sX1_caught_114 (hk : hK h a0 = 2) : Rn r 283 114 [l0, l1, l2, l3, l4, l5] [vR (some a0), vR z1, vR z2, vR z3, vR z4, vR z5] h Q ↔ Rn r 283 117 [l0, l1, l2, l3, l4, l5] [vI (hI h a0 14), vR z1, vR z2, vR z3, vR z4, vR z5] h Q := Rn_nx pg283 rfl (if_pos ⟨(hk ▸ Nat.le_refl _), (hk ▸ Nat.le_refl _)⟩)
theorem sX1_caught_117 (hk : hK h a2 = 2) : Rn r 283 117 [l0, l1, l2, l3, l4, l5] [vI x0, vR z1, vR (some a2), vR z3, vR z4, vR z5] h Q ↔ Cl r 129 [vR (some a2), vR z1, vI x0] h (Kt r 283 120 [l0, l1, l2, l3, l4, l5] [vR z3, vR z4, vR z5] Q) := Rn_call pg283 rfl (by simp only [am_exec, am_inv, am_pop, am_lk, hk]; rfl) pg129 rfl rfl rfl
theorem sX1_caught_120 : Rn r 283 120 [some (vR z), l1, l2, l3, l4, l5] [vR z0, vR z1, vR z2, vR z3] h Q ↔ Rn r 283 121 [some (vR z), l1, l2, l3, l4, l5] [vR z, vR z0, vR z1, vR z2, vR z3] h Q := Rn_nx pg283 rfl rfl
theorem sX1_caught_121 (hk : hK h a0 = 2) : Rn r 283 121 [l0, l1, l2, l3, l4, l5] [vR (some a0), vR z1, vR z2, vR z3, vR z4] h Q ↔ Rn r 283 124 [l0, l1, l2, l3, l4, l5] [vI (hI h a0 14), vR z1, vR z2, vR z3, vR z4] h Q := Rn_nx pg283 rfl (if_pos ⟨(hk ▸ Nat.le_refl _), (hk ▸ Nat.le_refl _)⟩)
theorem sX1_caught_124 (hk : 0 < hK h a2) (hk2 : hK h a2 < 40) : Rn r 283 124 [l0, l1, l2, l3, l4, l5] [vI x0, vR z1, vR (some a2), vR z3, vR z4] h Q ↔ Cl r 173 [vR (some a2), vR z1, vI x0] h (Kt r 283 127 [l0, l1, l2, l3, l4, l5] [vR z3, vR z4] Q) := Rn_call pg283 rfl (if_pos ⟨hk, hk2⟩) pg173 rfl rfl rfl
theorem sX1_caught_127 (hk : hK h a1 = 4) : Rn r 283 127 [l0, l1, l2, l3, l4, l5] [vR z0, vR (some a1)] h Q ↔ Cl r 119 [vR (some a1), vR z0] h (Kt r 283 130 [l0, l1, l2, l3, l4, l5] [] Q) := Rn_call pg283 rfl (by simp only [am_exec, am_inv, am_pop, am_lk, hk]; rfl) pg119 rfl rfl rfl
theorem sX1_caught_130 : Rn r 283 130 [l0, l1, l2, l3, l4, l5] [vI x0] h Q ↔ Rn r 283 131 [l0, l1, l2, l3, l4, l5] [] h Q := Rn_nx pg283 rfl rfl
theorem sX1_caught_131 : Rn r 283 131 [l0, l1, l2, l3, l4, l5] [] h Q ↔ Rn r 283 63 [l0, l1, l2, l3, l4, l5] [] h Q := Rn_nx pg283 rfl rfl
theorem sX1_caught_134 : Rn r 283 134 [l0, l1, l2, some (vR z), l4, l5] [] h Q ↔ Rn r 283 135 [l0, l1, l2, some (vR z), l4, l5] [vR z] h Q := Rn_nx pg283 rfl rfl
theorem sX1_caught_135 : Rn r 283 135 [some (vR z), l1, l2, l3, l4, l5] [vR z0] h Q ↔ Rn r 283 136 [some (vR z), l1, l2, l3, l4, l5] [vR z, vR z0] h Q := Rn_nx pg283 rfl rfl
theorem sX1_caught_136 (hk : hK h a0 = 2) : Rn r 283 136 [l0, l1, l2, l3, l4, l5] [vR (some a0), vR z1] h Q ↔ Cl r 126 [vR (some a0)] h (Kt r 283 139 [l0, l1, l2, l3, l4, l5] [vR z1] Q) := Rn_call pg283 rfl (by simp only [am_exec, am_inv, am_pop, am_lk, hk]; rfl) pg126 rfl rfl rfl
theorem sX1_caught_139 (hk : hK h a1 = 22) : Rn r 283 139 [l0, l1, l2, l3, l4, l5] [vR z0, vR (some a1)] h Q ↔ Rn r 283 142 [l0, l1, l2, l3, l4, l5] [] (putR h a1 2 z0) Q := Rn_nx pg283 rfl ((if_pos ⟨(hk ▸ Nat.le_refl _), (hk ▸ Nat.le_refl _)⟩).trans rfl)
theorem sX1_caught_142 : Rn r 283 142 [some (vR z), l1, l2, l3, l4, l5] [] h Q ↔ Rn r 283 143 [some (vR z), l1, l2, l3, l4, l5] [vR z] h Q := Rn_nx pg283 rfl rfl
theorem sX1_caught_143 : Rn r 283 143 [l0, l1, l2, some (vR z), l4, l5] [vR z0] h Q ↔ Rn r 283 144 [l0, l1, l2, some (vR z), l4, l5] [vR z, vR z0] h Q := Rn_nx pg283 rfl rfl
theorem sX1_caught_144 (hk : hK h a0 = 22) : Rn r 283 144 [l0, l1, l2, l3, l4, l5] [vR (some a0), vR z1] h Q ↔ Rn r 283 147 [l0, l1, l2, l3, l4, l5] [vR (hR h a0 2), vR z1] h Q := Rn_nx pg283 rfl (if_pos ⟨(hk ▸ Nat.le_refl _), (hk ▸ Nat.le_refl _)⟩)
theorem sX1_caught_147 : Rn r 283 147 [l0, l1, some (vR z), l3, l4, l5] [vR z0, vR z1] h Q ↔ Rn r 283 148 [l0, l1, some (vR z), l3, l4, l5] [vR z, vR z0, vR z1] h Q := Rn_nx pg283 rfl rfl
theorem sX1_caught_148 (hk : hK h a2 = 2) : Rn r 283 148 [l0, l1, l2, l3, l4, l5] [vR z0, vR z1, vR (some a2)] h Q ↔ Cl r 280 [vR (some a2), vR z1, vR z0] h (Kt r 283 151 [l0, l1, l2, l3, l4, l5] [] Q) := Rn_call pg283 rfl (by simp only [am_exec, am_inv, am_pop, am_lk, hk]; rfl) pg280 rfl rfl rfl
theorem sX1_caught_151 : Rn r 283 151 [some (vR z), l1, l2, l3, l4, l5] [] h Q ↔ Rn r 283 152 [some (vR z), l1, l2, l3, l4, l5] [vR z] h Q := Rn_nx pg283 rfl rfl
theorem sX1_caught_152 (hk : hK h a0 = 2) : Rn r 283 152 [l0, l1, l2, l3, l4, l5] [vR (some a0)] h Q ↔ Rn r 283 155 [l0, l1, l2, l3, l4, l5] [vR (hR h a0 15)] h Q := Rn_nx pg283 rfl (if_pos ⟨(hk ▸ Nat.le_refl _), (hk ▸ Nat.le_refl _)⟩)
theorem sX1_caught_155 : Rn r 283 155 [l0, l1, l2, l3, l4, l5] [vR z0] h Q ↔ if z0 = none then Rn r 283 171 [l0, l1, l2, l3, l4, l5] [] h Q else Rn r 283 158 [l0, l1, l2, l3, l4, l5] [] h Q := Rn_if pg283 rfl rfl rfl
theorem sX1_caught_158 : Rn r 283 158 [some (vR z), l1, l2, l3, l4, l5] [] h Q ↔ Rn r 283 159 [some (vR z), l1, l2, l3, l4, l5] [vR z] h Q := Rn_nx pg283 rfl rfl
theorem sX1_caught_159 (hk : hK h a0 = 2) : Rn r 283 159 [l0, l1, l2, l3, l4, l5] [vR (some a0)] h Q ↔ Rn r 283 162 [l0, l1, l2, l3, l4, l5] [vR (hR h a0 7)] h Q := Rn_nx pg283 rfl (if_pos ⟨(hk ▸ Nat.le_refl _), (hk ▸ Nat.le_refl _)⟩)
theorem sX1_caught_162 : Rn r 283 162 [l0, l1, l2, l3, l4, l5] [vR z0] h Q ↔ Rn r 283 163 [l0, l1, l2, l3, l4, l5] [vI 2, vR z0] h Q := Rn_nx pg283 rfl rfl
theorem sX1_caught_163 : Rn r 283 163 [some (vR z), l1, l2, l3, l4, l5] [vI x0, vR z1] h Q ↔ Rn r 283 164 [some (vR z), l1, l2, l3, l4, l5] [vR z, vI x0, vR z1] h Q := Rn_nx pg283 rfl rfl
theorem sX1_caught_164 (hk : hK h a0 = 2) : Rn r 283 164 [l0, l1, l2, l3, l4, l5] [vR (some a0), vI x1, vR z2] h Q ↔ Rn r 283 167 [l0, l1, l2, l3, l4, l5] [vI (hI h a0 14), vI x1, vR z2] h Q := Rn_nx pg283 rfl (if_pos ⟨(hk ▸ Nat.le_refl _), (hk ▸ Nat.le_refl _)⟩)
theorem sX1_caught_167 : Rn r 283 167 [l0, l1, l2, l3, l4, l5] [vI x0, vI x1, vR z2] h Q ↔ Rn r 283 168 [l0, l1, l2, l3, l4, l5] [vI (-1), vI x0, vI x1, vR z2] h Q := Rn_nx pg283 rfl rfl
theorem sX1_caught_168 (hk : hK h a3 = 5) : Rn r 283 168 [l0, l1, l2, l3, l4, l5] [vI x0, vI x1, vI x2, vR (some a3)] h Q ↔ Cl r 130 [vR (some a3), vI x2, vI x1, vI x0] h (Kt r 283 171 [l0, l1, l2, l3, l4, l5] [] Q) := Rn_call pg283 rfl (by simp only [am_exec, am_inv, am_pop, am_lk, hk]; rfl) pg130 rfl rfl rfl
theorem sX1_caught_171 : Rn r 283 171 [some (vR z), l1, l2, l3, l4, l5] [] h Q ↔ Rn r 283 172 [some (vR z), l1, l2, l3, l4, l5] [vR z] h Q := Rn_nx pg283 rfl rfl
theorem sX1_caught_172 : Rn r 283 172 [l0, l1, l2, l3, l4, l5] [vR z0] h Q ↔ Rn r 283 174 [l0, l1, l2, l3, l4, l5] [vI 41, vR z0] h Q := Rn_nx pg283 rfl rfl
theorem sX1_caught_174 (hk : hK h a1 = 2) : Rn r 283 174 [l0, l1, l2, l3, l4, l5] [vI x0, vR (some a1)] h Q ↔ Cl r 128 [vR (some a1), vI x0] h (Kt r 283 177 [l0, l1, l2, l3, l4, l5] [] Q) := Rn_call pg283 rfl (by simp only [am_exec, am_inv, am_pop, am_lk, hk]; rfl) pg128 rfl rfl rfl
theorem sX1_caught_177 : Rn r 283 177 [l0, l1, l2, l3, l4, l5] [] h Q ↔ Rn r 283 180 [l0, l1, l2, l3, l4, l5] [vR (some (hN h))] (newC h 20 5) Q := Rn_nx pg283 rfl rfl
theorem sX1_caught_180 : Rn r 283 180 [l0, l1, l2, l3, l4, l5] [vR z0] h Q ↔ Rn r 283 181 [l0, l1, l2, l3, l4, l5] [vR z0, vR z0] h Q := Rn_nx pg283 rfl rfl
theorem sX1_caught_181 : Rn r 283 181 [l0, l1, some (vR z), l3, l4, l5] [vR z0, vR z1] h Q ↔ Rn r 283 182 [l0, l1, some (vR z), l3, l4, l5] [vR z, vR z0, vR z1] h Q := Rn_nx pg283 rfl rfl
theorem sX1_caught_182 (hk : 0 < hK h a1) (hk2 : hK h a1 < 40) : Rn r 283 182 [l0, l1, l2, l3, l4, l5] [vR z0, vR (some a1), vR z2] h Q ↔ Cl r 133 [vR (some a1), vR z0] h (Kt r 283 185 [l0, l1, l2, l3, l4, l5] [vR z2] Q) := Rn_call pg283 rfl (if_pos ⟨hk, hk2⟩) pg133 rfl rfl rfl
theorem sX1_caught_185 : Rn r 283 185 [l0, l1, l2, l3, l4, l5] [vR z0] h Q ↔ Rn r 283 187 [l0, l1, l2, l3, l4, some (vR z0)] [] h Q := Rn_nx pg283 rfl rfl
theorem sX1_caught_187 : Rn r 283 187 [l0, l1, l2, l3, l4, some (vR z)] [] h Q ↔ Rn r 283 189 [l0, l1, l2, l3, l4, some (vR z)] [vR z] h Q := Rn_nx pg283 rfl rfl
theorem sX1_caught_189 : Rn r 283 189 [l0, l1, l2, some (vR z), l4, l5] [vR z0] h Q ↔ Rn r 283 190 [l0, l1, l2, some (vR z), l4, l5] [vR z, vR z0] h Q := Rn_nx pg283 rfl rfl
theorem sX1_caught_190 (hk : hK h a1 = 20) : Rn r 283 190 [l0, l1, l2, l3, l4, l5] [vR z0, vR (some a1)] h Q ↔ Rn r 283 193 [l0, l1, l2, l3, l4, l5] [] (putR h a1 2 z0) Q := Rn_nx pg283 rfl ((if_pos ⟨(hk ▸ Nat.le_refl _), (hk ▸ Nat.le_refl _)⟩).trans rfl)
theorem sX1_caught_193 : Rn r 283 193 [l0, l1, l2, some (vR z), l4, l5] [] h Q ↔ Rn r 283 194 [l0, l1, l2, some (vR z), l4, l5] [vR z] h Q := Rn_nx pg283 rfl rfl
theorem sX1_caught_194 : Rn r 283 194 [some (vR z), l1, l2, l3, l4, l5] [vR z0] h Q ↔ Rn r 283 195 [some (vR z), l1, l2, l3, l4, l5] [vR z, vR z0] h Q := Rn_nx pg283 rfl rfl
theorem sX1_caught_195 : Rn r 283 195 [l0, l1, l2, l3, l4, some (vR z)] [vR z0, vR z1] h Q ↔ Rn r 283 197 [l0, l1, l2, l3, l4, some (vR z)] [vR z, vR z0, vR z1] h Q := Rn_nx pg283 rfl rfl
theorem sX1_caught_197 (hk : hK h a1 = 2) : Rn (r + 1) 283 197 [l0, l1, l2, l3, l4, l5] [vR z0, vR (some a1), vR z2] h Q ↔ Cl r 134 [vR (some a1), vR z0] h (Kt (r + 1) 283 200 [l0, l1, l2, l3, l4, l5] [vR z2] Q) := Rn_call pg283 rfl (by simp only [am_exec, am_inv, am_pop, am_lk, hk]; rfl) pg134 rfl rfl rfl
theorem sX1_caught_200 (hk : hK h a1 = 22) : Rn r 283 200 [l0, l1, l2, l3, l4, l5] [vR z0, vR (some a1)] h Q ↔ Rn r 283 203 [l0, l1, l2, l3, l4, l5] [] (putR h a1 3 z0) Q := Rn_nx pg283 rfl ((if_pos ⟨(hk ▸ Nat.le_refl _), (hk ▸ Nat.le_refl _)⟩).trans rfl)
theorem sX1_caught_203 : Rn r 283 203 [l0, l1, l2, l3, l4, l5] [] h Q ↔ Q (Sum.inl none) h := Rn_end pg283 rfl rfl
/-! 284 ThrowRules$Unit.variable(I)I -/
theorem eX3_variable : Cl r 284 [vR z0, vI x1] h Q ↔ Rn r 284 0 [some (vR z0), some (vI x1), none, none, none] [] h Q := Cl_in pg284 rfl
theorem sX3_variable_0 : Rn r 284 0 [some (vR z), l1, l2, l3, l4] [] h Q ↔ Rn r 284 1 [some (vR z), l1, l2, l3, l4] [vR z] h Q := Rn_nx pg284 rfl rfl
theorem sX3_variable_1 : Rn r 284 1 [l0, some (vI x), l2, l3, l4] [vR z0] h Q ↔ Rn r 284 2 [l0, some (vI x), l2, l3, l4] [vI x, vR z0] h Q := Rn_nx pg284 rfl rfl
theorem sX3_variable_2 (hk : hK h a1 = 5) : Rn r 284 2 [l0, l1, l2, l3, l4] [vI x0, vR (some a1)] h Q ↔ Cl r 177 [vR (some a1), vI x0] h (Kt r 284 5 [l0, l1, l2, l3, l4] [] Q) := Rn_call pg284 rfl (by simp only [am_exec, am_inv, am_pop, am_lk, hk]; rfl) pg177 rfl rfl rfl
theorem sX3_variable_5 : Rn r 284 5 [l0, l1, l2, l3, l4] [vI x0] h Q ↔ Rn r 284 6 [l0, l1, some (vI x0), l3, l4] [] h Q := Rn_nx pg284 rfl rfl
theorem sX3_variable_6 : Rn r 284 6 [l0, l1, some (vI x), l3, l4] [] h Q ↔ Rn r 284 7 [l0, l1, some (vI x), l3, l4] [vI x] h Q := Rn_nx pg284 rfl rfl
theorem sX3_variable_7 : Rn r 284 7 [l0, l1, l2, l3, l4] [vI x0] h Q ↔ if x0 ≠ 0 then Rn r 284 12 [l0, l1, l2, l3, l4] [] h Q else Rn r 284 10 [l0, l1, l2, l3, l4] [] h Q := Rn_if pg284 rfl rfl rfl
theorem sX3_variable_10 : Rn r 284 10 [l0, l1, l2, l3, l4] [] h Q ↔ Rn r 284 11 [l0, l1, l2, l3, l4] [vI 4] h Q := Rn_nx pg284 rfl rfl
theorem sX3_variable_11 : Rn r 284 11 [l0, l1, l2, l3, l4] [vI x0] h Q ↔ Q (Sum.inl (some (vI x0))) h := Rn_end pg284 rfl rfl
theorem sX3_variable_12 : Rn r 284 12 [some (vR z), l1, l2, l3, l4] [] h Q ↔ Rn r 284 13 [some (vR z), l1, l2, l3, l4] [vR z] h Q := Rn_nx pg284 rfl rfl
theorem sX3_variable_13 (hk : hK h a0 = 5) : Rn r 284 13 [l0, l1, l2, l3, l4] [vR (some a0)] h Q ↔ Rn r 284 16 [l0, l1, l2, l3, l4] [vR (hR h a0 0)] h Q := Rn_nx pg284 rfl (if_pos ⟨(hk ▸ Nat.le_refl _), (hk ▸ Nat.le_refl _)⟩)
theorem sX3_variable_16 : Rn r 284 16 [l0, l1, some (vI x), l3, l4] [vR z0] h Q ↔ Rn r 284 17 [l0, l1, some (vI x), l3, l4] [vI x, vR z0] h Q := Rn_nx pg284 rfl rfl
theorem sX3_variable_17 : Rn r 284 17 [l0, l1, l2, l3, l4] [vI x0, vR z1] h Q ↔ Cl r 301 [vI x0] h (Kt r 284 20 [l0, l1, l2, l3, l4] [vR z1] Q) := Rn_call pg284 rfl rfl pg301 rfl rfl rfl
theorem sX3_variable_20 (hk : hK h a1 = 4) : Rn r 284 20 [l0, l1, l2, l3, l4] [vI x0, vR (some a1)] h Q ↔ Cl r 43 [vR (some a1), vI x0] h (Kt r 284 23 [l0, l1, l2, l3, l4] [] Q) := Rn_call pg284 rfl (by simp only [am_exec, am_inv, am_pop, am_lk, hk]; rfl) pg43 rfl rfl rfl
theorem sX3_variable_23_n : Rn r 284 23 [l0, l1, l2, l3, l4] [vR none] h Q ↔ Rn r 284 26 [l0, l1, l2, l3, l4] [vR none] h Q := Rn_nx pg284 rfl rfl
theorem sX3_variable_23 (hk : hK h a0 ∈ [7]) : Rn r 284 23 [l0, l1, l2, l3, l4] [vR (some a0)] h Q ↔ Rn r 284 26 [l0, l1, l2, l3, l4] [vR (some a0)] h Q := Rn_nx pg284 rfl (if_pos hk)
theorem sX3_variable_26 : Rn r 284 26 [l0, l1, l2, l3, l4] [vR z0] h Q ↔ Rn r 284 27 [l0, l1, l2, some (vR z0), l4] [] h Q := Rn_nx pg284 rfl rfl
theorem sX3_variable_27 : Rn r 284 27 [l0, l1, l2, l3, l4] [] h Q ↔ Rn r 284 28 [l0, l1, l2, l3, l4] [vI 0] h Q := Rn_nx pg284 rfl rfl
theorem sX3_variable_28 : Rn r 284 28 [l0, l1, l2, l3, l4] [vI x0] h Q ↔ Rn r 284 30 [l0, l1, l2, l3, some (vI x0)] [] h Q := Rn_nx pg284 rfl rfl
theorem sX3_variable_30 : Rn r 284 30 [l0, l1, l2, l3, some (vI x)] [] h Q ↔ Rn r 284 32 [l0, l1, l2, l3, some (vI x)] [vI x] h Q := Rn_nx pg284 rfl rfl
theorem sX3_variable_32 : Rn r 284 32 [some (vR z), l1, l2, l3, l4] [vI x0] h Q ↔ Rn r 284 33 [some (vR z), l1, l2, l3, l4] [vR z, vI x0] h Q := Rn_nx pg284 rfl rfl
theorem sX3_variable_33 (hk : hK h a0 = 5) : Rn r 284 33 [l0, l1, l2, l3, l4] [vR (some a0), vI x1] h Q ↔ Rn r 284 36 [l0, l1, l2, l3, l4] [vR (hR h a0 0), vI x1] h Q := Rn_nx pg284 rfl (if_pos ⟨(hk ▸ Nat.le_refl _), (hk ▸ Nat.le_refl _)⟩)
theorem sX3_variable_36 (hk : hK h a0 = 4) : Rn r 284 36 [l0, l1, l2, l3, l4] [vR (some a0), vI x1] h Q ↔ Cl r 34 [vR (some a0)] h (Kt r 284 39 [l0, l1, l2, l3, l4] [vI x1] Q) := Rn_call pg284 rfl (by simp only [am_exec, am_inv, am_pop, am_lk, hk]; rfl) pg34 rfl rfl rfl
theorem sX3_variable_39 : Rn r 284 39 [l0, l1, l2, l3, l4] [vI x0, vI x1] h Q ↔ if x0 ≤ x1 then Rn r 284 85 [l0, l1, l2, l3, l4] [] h Q else Rn r 284 42 [l0, l1, l2, l3, l4] [] h Q := Rn_if pg284 rfl rfl rfl
theorem sX3_variable_42 : Rn r 284 42 [l0, l1, some (vI x), l3, l4] [] h Q ↔ Rn r 284 43 [l0, l1, some (vI x), l3, l4] [vI x] h Q := Rn_nx pg284 rfl rfl
theorem sX3_variable_43 : Rn r 284 43 [l0, l1, l2, l3, some (vI x)] [vI x0] h Q ↔ Rn r 284 45 [l0, l1, l2, l3, some (vI x)] [vI x, vI x0] h Q := Rn_nx pg284 rfl rfl
theorem sX3_variable_45 : Rn r 284 45 [l0, l1, l2, l3, l4] [vI x0, vI x1] h Q ↔ Rn r 284 46 [l0, l1, l2, l3, l4] [vI (x1 >>> (x0 &&& 31))] h Q := Rn_nx pg284 rfl rfl
theorem sX3_variable_46 : Rn r 284 46 [l0, l1, l2, l3, l4] [vI x0] h Q ↔ Rn r 284 47 [l0, l1, l2, l3, l4] [vI 1, vI x0] h Q := Rn_nx pg284 rfl rfl
theorem sX3_variable_47 : Rn r 284 47 [l0, l1, l2, l3, l4] [vI x0, vI x1] h Q ↔ Rn r 284 48 [l0, l1, l2, l3, l4] [vI (x1 &&& x0)] h Q := Rn_nx pg284 rfl rfl
theorem sX3_variable_48 : Rn r 284 48 [l0, l1, l2, l3, l4] [vI x0] h Q ↔ Rn r 284 49 [l0, l1, l2, l3, l4] [vI 1, vI x0] h Q := Rn_nx pg284 rfl rfl
theorem sX3_variable_49 : Rn r 284 49 [l0, l1, l2, l3, l4] [vI x0, vI x1] h Q ↔ if x1 ≠ x0 then Rn r 284 79 [l0, l1, l2, l3, l4] [] h Q else Rn r 284 52 [l0, l1, l2, l3, l4] [] h Q := Rn_if pg284 rfl rfl rfl
theorem sX3_variable_52 : Rn r 284 52 [some (vR z), l1, l2, l3, l4] [] h Q ↔ Rn r 284 53 [some (vR z), l1, l2, l3, l4] [vR z] h Q := Rn_nx pg284 rfl rfl
theorem sX3_variable_53 (hk : hK h a0 = 5) : Rn r 284 53 [l0, l1, l2, l3, l4] [vR (some a0)] h Q ↔ Rn r 284 56 [l0, l1, l2, l3, l4] [vR (hR h a0 0)] h Q := Rn_nx pg284 rfl (if_pos ⟨(hk ▸ Nat.le_refl _), (hk ▸ Nat.le_refl _)⟩)
theorem sX3_variable_56 : Rn r 284 56 [l0, l1, l2, l3, some (vI x)] [vR z0] h Q ↔ Rn r 284 58 [l0, l1, l2, l3, some (vI x)] [vI x, vR z0] h Q := Rn_nx pg284 rfl rfl
theorem sX3_variable_58 (hk : hK h a1 = 4) : Rn r 284 58 [l0, l1, l2, l3, l4] [vI x0, vR (some a1)] h Q ↔ Cl r 43 [vR (some a1), vI x0] h (Kt r 284 61 [l0, l1, l2, l3, l4] [] Q) := Rn_call pg284 rfl (by simp only [am_exec, am_inv, am_pop, am_lk, hk]; rfl) pg43 rfl rfl rfl
theorem sX3_variable_61_n : Rn r 284 61 [l0, l1, l2, l3, l4] [vR none] h Q ↔ Rn r 284 64 [l0, l1, l2, l3, l4] [vR none] h Q := Rn_nx pg284 rfl rfl
theorem sX3_variable_61 (hk : hK h a0 ∈ [7]) : Rn r 284 61 [l0, l1, l2, l3, l4] [vR (some a0)] h Q ↔ Rn r 284 64 [l0, l1, l2, l3, l4] [vR (some a0)] h Q := Rn_nx pg284 rfl (if_pos hk)
theorem sX3_variable_64 : Rn r 284 64 [l0, l1, l2, some (vR z), l4] [vR z0] h Q ↔ Rn r 284 65 [l0, l1, l2, some (vR z), l4] [vR z, vR z0] h Q := Rn_nx pg284 rfl rfl
theorem sX3_variable_65 (hk : hK h a1 = 7) : Rn r 284 65 [l0, l1, l2, l3, l4] [vR z0, vR (some a1)] h Q ↔ Cl r 47 [vR (some a1), vR z0] h (Kt r 284 68 [l0, l1, l2, l3, l4] [] Q) := Rn_call pg284 rfl (by simp only [am_exec, am_inv, am_pop, am_lk, hk]; rfl) pg47 rfl rfl rfl
theorem sX3_variable_68 : Rn r 284 68 [l0, l1, l2, l3, l4] [vI x0] h Q ↔ if x0 ≠ 0 then Rn r 284 79 [l0, l1, l2, l3, l4] [] h Q else Rn r 284 71 [l0, l1, l2, l3, l4] [] h Q := Rn_if pg284 rfl rfl rfl
theorem sX3_variable_71 : Rn r 284 71 [l0, l1, l2, some (vR z), l4] [] h Q ↔ Rn r 284 72 [l0, l1, l2, some (vR z), l4] [vR z] h Q := Rn_nx pg284 rfl rfl
theorem sX3_variable_72 (hk : hK h a0 = 7) : Rn r 284 72 [l0, l1, l2, l3, l4] [vR (some a0)] h Q ↔ Rn r 284 75 [l0, l1, l2, l3, l4] [vR (hR h a0 2)] h Q := Rn_nx pg284 rfl (if_pos ⟨(hk ▸ Nat.le_refl _), (hk ▸ Nat.le_refl _)⟩)
theorem sX3_variable_75 : Rn r 284 75 [l0, l1, l2, l3, l4] [vR z0] h Q ↔ Rn r 284 76 [l0, l1, l2, some (vR z0), l4] [] h Q := Rn_nx pg284 rfl rfl
theorem sX3_variable_76 : Rn r 284 76 [l0, l1, l2, l3, l4] [] h Q ↔ Rn r 284 42 [l0, l1, l2, l3, l4] [] h Q := Rn_nx pg284 rfl rfl
theorem sX3_variable_79 : Rn r 284 79 [l0, l1, l2, l3, some (vI x)] [] h Q ↔ Rn r 284 82 [l0, l1, l2, l3, some (vI (x + 1))] [] h Q := Rn_nx pg284 rfl rfl
theorem sX3_variable_82 : Rn r 284 82 [l0, l1, l2, l3, l4] [] h Q ↔ Rn r 284 30 [l0, l1, l2, l3, l4] [] h Q := Rn_nx pg284 rfl rfl
theorem sX3_variable_85 : Rn r 284 85 [l0, l1, l2, l3, l4] [] h Q ↔ Rn r 284 86 [l0, l1, l2, l3, l4] [vI 1] h Q := Rn_nx pg284 rfl rfl
theorem sX3_variable_86 : Rn r 284 86 [l0, l1, l2, some (vR z), l4] [vI x0] h Q ↔ Rn r 284 87 [l0, l1, l2, some (vR z), l4] [vR z, vI x0] h Q := Rn_nx pg284 rfl rfl
theorem sX3_variable_87 (hk : hK h a0 = 7) : Rn r 284 87 [l0, l1, l2, l3, l4] [vR (some a0), vI x1] h Q ↔ Rn r 284 90 [l0, l1, l2, l3, l4] [vI (hI h a0 1), vI x1] h Q := Rn_nx pg284 rfl (if_pos ⟨(hk ▸ Nat.le_refl _), (hk ▸ Nat.le_refl _)⟩)
theorem sX3_variable_90 : Rn r 284 90 [l0, l1, l2, l3, l4] [vI x0, vI x1] h Q ↔ Rn r 284 91 [l0, l1, l2, l3, l4] [vI (x1 <<< (x0 &&& 31))] h Q := Rn_nx pg284 rfl rfl
theorem sX3_variable_91 : Rn r 284 91 [l0, l1, l2, l3, l4] [vI x0] h Q ↔ Q (Sum.inl (some (vI x0))) h := Rn_end pg284 rfl rfl
/-! 285 ThrowRules$Catch.again(LThrowRules$Unit;)I -/
theorem eX22_again : Cl r 285 [vR z0, vR z1] h Q ↔ Rn r 285 0 [some (vR z0), some (vR z1), none, none, none, none, none, none] [] h Q := Cl_in pg285 rfl
theorem sX22_again_0 : Rn r 285 0 [some (vR z), l1, l2, l3, l4, l5, l6, l7] [] h Q ↔ Rn r 285 1 [some (vR z), l1, l2, l3, l4, l5, l6, l7] [vR z] h Q := Rn_nx pg285 rfl rfl
theorem sX22_again_1 (hk : hK h a0 = 22) : Rn r 285 1 [l0, l1, l2, l3, l4, l5, l6, l7] [vR (some a0)] h Q ↔ Rn r 285 4 [l0, l1, l2, l3, l4, l5, l6, l7] [vI (hI h a0 4)] h Q := Rn_nx pg285 rfl (if_pos ⟨(hk ▸ Nat.le_refl _), (hk ▸ Nat.le_refl _)⟩)
theorem sX22_again_4 : Rn r 285 4 [l0, l1, l2, l3, l4, l5, l6, l7] [vI x0] h Q ↔ if x0 = 0 then Rn r 285 16 [l0, l1, l2, l3, l4, l5, l6, l7] [] h Q else Rn r 285 7 [l0, l1, l2, l3, l4, l5, l6, l7] [] h Q := Rn_if pg285 rfl rfl rfl
theorem sX22_again_7 : Rn r 285 7 [l0, some (vR z), l2, l3, l4, l5, l6, l7] [] h Q ↔ Rn r 285 8 [l0, some (vR z), l2, l3, l4, l5, l6, l7] [vR z] h Q := Rn_nx pg285 rfl rfl
theorem sX22_again_8 : Rn r 285 8 [some (vR z), l1, l2, l3, l4, l5, l6, l7] [vR z0] h Q ↔ Rn r 285 9 [some (vR z), l1, l2, l3, l4, l5, l6, l7] [vR z, vR z0] h Q := Rn_nx pg285 rfl rfl
theorem sX22_again_9 (hk : hK h a0 = 22) : Rn r 285 9 [l0, l1, l2, l3, l4, l5, l6, l7] [vR (some a0), vR z1] h Q ↔ Rn r 285 12 [l0, l1, l2, l3, l4, l5, l6, l7] [vR (hR h a0 1), vR z1] h Q := Rn_nx pg285 rfl (if_pos ⟨(hk ▸ Nat.le_refl _), (hk ▸ Nat.le_refl _)⟩)
theorem sX22_again_12 (hk : hK h a1 = 5) : Rn r 285 12 [l0, l1, l2, l3, l4, l5, l6, l7] [vR z0, vR (some a1)] h Q ↔ Cl r 49 [vR (some a1), vR z0] h (Kt r 285 15 [l0, l1, l2, l3, l4, l5, l6, l7] [] Q) := Rn_call pg285 rfl (by simp only [am_exec, am_inv, am_pop, am_lk, hk]; rfl) pg49 rfl rfl rfl
theorem sX22_again_15 : Rn r 285 15 [l0, l1, l2, l3, l4, l5, l6, l7] [vI x0] h Q ↔ Q (Sum.inl (some (vI x0))) h := Rn_end pg285 rfl rfl
theorem sX22_again_16 : Rn r 285 16 [l0, l1, l2, l3, l4, l5, l6, l7] [] h Q ↔ Rn r 285 17 [l0, l1, l2, l3, l4, l5, l6, l7] [vI 0] h Q := Rn_nx pg285 rfl rfl
theorem sX22_again_17 : Rn r 285 17 [l0, l1, l2, l3, l4, l5, l6, l7] [vI x0] h Q ↔ Rn r 285 18 [l0, l1, some (vI x0), l3, l4, l5, l6, l7] [] h Q := Rn_nx pg285 rfl rfl
theorem sX22_again_18 : Rn r 285 18 [l0, l1, l2, l3, l4, l5, l6, l7] [] h Q ↔ Rn r 285 19 [l0, l1, l2, l3, l4, l5, l6, l7] [vI 0] h Q := Rn_nx pg285 rfl rfl
theorem sX22_again_19 : Rn r 285 19 [l0, l1, l2, l3, l4, l5, l6, l7] [vI x0] h Q ↔ Rn r 285 20 [l0, l1, l2, some (vI x0), l4, l5, l6, l7] [] h Q := Rn_nx pg285 rfl rfl
theorem sX22_again_20 : Rn r 285 20 [some (vR z), l1, l2, l3, l4, l5, l6, l7] [] h Q ↔ Rn r 285 21 [some (vR z), l1, l2, l3, l4, l5, l6, l7] [vR z] h Q := Rn_nx pg285 rfl rfl
theorem sX22_again_21 (hk : hK h a0 = 22) : Rn r 285 21 [l0, l1, l2, l3, l4, l5, l6, l7] [vR (some a0)] h Q ↔ Rn r 285 24 [l0, l1, l2, l3, l4, l5, l6, l7] [vR (hR h a0 0)] h Q := Rn_nx pg285 rfl (if_pos ⟨(hk ▸ Nat.le_refl _), (hk ▸ Nat.le_refl _)⟩)
theorem sX22_again_24 (hk : hK h a0 = 36) : Rn r 285 24 [l0, l1, l2, l3, l4, l5, l6, l7] [vR (some a0)] h Q ↔ Rn r 285 27 [l0, l1, l2, l3, l4, l5, l6, l7] [vR (hR h a0 9)] h Q := Rn_nx pg285 rfl (if_pos ⟨(hk ▸ Nat.le_refl _), (hk ▸ Nat.le_refl _)⟩)
theorem sX22_again_27 : Rn r 285 27 [l0, l1, l2, some (vI x), l4, l5, l6, l7] [vR z0] h Q ↔ Rn r 285 28 [l0, l1, l2, some (vI x), l4, l5, l6, l7] [vI x, vR z0] h Q := Rn_nx pg285 rfl rfl
theorem sX22_again_28 (hk : hK h a1 = 4) : Rn r 285 28 [l0, l1, l2, l3, l4, l5, l6, l7] [vI x0, vR (some a1)] h Q ↔ Cl r 43 [vR (some a1), vI x0] h (Kt r 285 31 [l0, l1, l2, l3, l4, l5, l6, l7] [] Q) := Rn_call pg285 rfl (by simp only [am_exec, am_inv, am_pop, am_lk, hk]; rfl) pg43 rfl rfl rfl
theorem sX22_again_31 : Rn r 285 31 [some (vR z), l1, l2, l3, l4, l5, l6, l7] [vR z0] h Q ↔ Rn r 285 32 [some (vR z), l1, l2, l3, l4, l5, l6, l7] [vR z, vR z0] h Q := Rn_nx pg285 rfl rfl
theorem sX22_again_32 : Rn r 285 32 [l0, l1, l2, l3, l4, l5, l6, l7] [vR z0, vR z1] h Q ↔ if z1 = z0 then Rn r 285 65 [l0, l1, l2, l3, l4, l5, l6, l7] [] h Q else Rn r 285 35 [l0, l1, l2, l3, l4, l5, l6, l7] [] h Q := Rn_if pg285 rfl rfl rfl
theorem sX22_again_35 : Rn r 285 35 [l0, l1, some (vI x), l3, l4, l5, l6, l7] [] h Q ↔ Rn r 285 36 [l0, l1, some (vI x), l3, l4, l5, l6, l7] [vI x] h Q := Rn_nx pg285 rfl rfl
theorem sX22_again_36 : Rn r 285 36 [l0, some (vR z), l2, l3, l4, l5, l6, l7] [vI x0] h Q ↔ Rn r 285 37 [l0, some (vR z), l2, l3, l4, l5, l6, l7] [vR z, vI x0] h Q := Rn_nx pg285 rfl rfl
theorem sX22_again_37 : Rn r 285 37 [some (vR z), l1, l2, l3, l4, l5, l6, l7] [vR z0, vI x1] h Q ↔ Rn r 285 38 [some (vR z), l1, l2, l3, l4, l5, l6, l7] [vR z, vR z0, vI x1] h Q := Rn_nx pg285 rfl rfl
theorem sX22_again_38 (hk : hK h a0 = 22) : Rn r 285 38 [l0, l1, l2, l3, l4, l5, l6, l7] [vR (some a0), vR z1, vI x2] h Q ↔ Rn r 285 41 [l0, l1, l2, l3, l4, l5, l6, l7] [vR (hR h a0 0), vR z1, vI x2] h Q := Rn_nx pg285 rfl (if_pos ⟨(hk ▸ Nat.le_refl _), (hk ▸ Nat.le_refl _)⟩)
theorem sX22_again_41 (hk : hK h a0 = 36) : Rn r 285 41 [l0, l1, l2, l3, l4, l5, l6, l7] [vR (some a0), vR z1, vI x2] h Q ↔ Rn r 285 44 [l0, l1, l2, l3, l4, l5, l6, l7] [vR (hR h a0 9), vR z1, vI x2] h Q := Rn_nx pg285 rfl (if_pos ⟨(hk ▸ Nat.le_refl _), (hk ▸ Nat.le_refl _)⟩)
theorem sX22_again_44 : Rn r 285 44 [l0, l1, l2, some (vI x), l4, l5, l6, l7] [vR z0, vR z1, vI x2] h Q ↔ Rn r 285 45 [l0, l1, l2, some (vI x), l4, l5, l6, l7] [vI x, vR z0, vR z1, vI x2] h Q := Rn_nx pg285 rfl rfl
theorem sX22_again_45 (hk : hK h a1 = 4) : Rn r 285 45 [l0, l1, l2, l3, l4, l5, l6, l7] [vI x0, vR (some a1), vR z2, vI x3] h Q ↔ Cl r 43 [vR (some a1), vI x0] h (Kt r 285 48 [l0, l1, l2, l3, l4, l5, l6, l7] [vR z2, vI x3] Q) := Rn_call pg285 rfl (by simp only [am_exec, am_inv, am_pop, am_lk, hk]; rfl) pg43 rfl rfl rfl
theorem sX22_again_48_n : Rn r 285 48 [l0, l1, l2, l3, l4, l5, l6, l7] [vR none, vR z1, vI x2] h Q ↔ Rn r 285 51 [l0, l1, l2, l3, l4, l5, l6, l7] [vR none, vR z1, vI x2] h Q := Rn_nx pg285 rfl rfl
theorem sX22_again_48 (hk : hK h a0 ∈ [22]) : Rn r 285 48 [l0, l1, l2, l3, l4, l5, l6, l7] [vR (some a0), vR z1, vI x2] h Q ↔ Rn r 285 51 [l0, l1, l2, l3, l4, l5, l6, l7] [vR (some a0), vR z1, vI x2] h Q := Rn_nx pg285 rfl (if_pos hk)
theorem sX22_again_51 (hk : hK h a0 = 22) : Rn r 285 51 [l0, l1, l2, l3, l4, l5, l6, l7] [vR (some a0), vR z1, vI x2] h Q ↔ Rn r 285 54 [l0, l1, l2, l3, l4, l5, l6, l7] [vR (hR h a0 1), vR z1, vI x2] h Q := Rn_nx pg285 rfl (if_pos ⟨(hk ▸ Nat.le_refl _), (hk ▸ Nat.le_refl _)⟩)
theorem sX22_again_54 (hk : hK h a1 = 5) : Rn r 285 54 [l0, l1, l2, l3, l4, l5, l6, l7] [vR z0, vR (some a1), vI x2] h Q ↔ Cl r 49 [vR (some a1), vR z0] h (Kt r 285 57 [l0, l1, l2, l3, l4, l5, l6, l7] [vI x2] Q) := Rn_call pg285 rfl (by simp only [am_exec, am_inv, am_pop, am_lk, hk]; rfl) pg49 rfl rfl rfl
theorem sX22_again_57 : Rn r 285 57 [l0, l1, l2, l3, l4, l5, l6, l7] [vI x0, vI x1] h Q ↔ Rn r 285 58 [l0, l1, l2, l3, l4, l5, l6, l7] [vI (x1 ||| x0)] h Q := Rn_nx pg285 rfl rfl
theorem sX22_again_58 : Rn r 285 58 [l0, l1, l2, l3, l4, l5, l6, l7] [vI x0] h Q ↔ Rn r 285 59 [l0, l1, some (vI x0), l3, l4, l5, l6, l7] [] h Q := Rn_nx pg285 rfl rfl
theorem sX22_again_59 : Rn r 285 59 [l0, l1, l2, some (vI x), l4, l5, l6, l7] [] h Q ↔ Rn r 285 62 [l0, l1, l2, some (vI (x + 1)), l4, l5, l6, l7] [] h Q := Rn_nx pg285 rfl rfl
theorem sX22_again_62 : Rn r 285 62 [l0, l1, l2, l3, l4, l5, l6, l7] [] h Q ↔ Rn r 285 20 [l0, l1, l2, l3, l4, l5, l6, l7] [] h Q := Rn_nx pg285 rfl rfl
theorem sX22_again_65 : Rn r 285 65 [l0, some (vR z), l2, l3, l4, l5, l6, l7] [] h Q ↔ Rn r 285 66 [l0, some (vR z), l2, l3, l4, l5, l6, l7] [vR z] h Q := Rn_nx pg285 rfl rfl
theorem sX22_again_66 : Rn r 285 66 [some (vR z), l1, l2, l3, l4, l5, l6, l7] [vR z0] h Q ↔ Rn r 285 67 [some (vR z), l1, l2, l3, l4, l5, l6, l7] [vR z, vR z0] h Q := Rn_nx pg285 rfl rfl
theorem sX22_again_67 (hk : hK h a0 = 22) : Rn r 285 67 [l0, l1, l2, l3, l4, l5, l6, l7] [vR (some a0), vR z1] h Q ↔ Rn r 285 70 [l0, l1, l2, l3, l4, l5, l6, l7] [vR (hR h a0 0), vR z1] h Q := Rn_nx pg285 rfl (if_pos ⟨(hk ▸ Nat.le_refl _), (hk ▸ Nat.le_refl _)⟩)
theorem sX22_again_70 (hk : hK h a0 = 36) : Rn r 285 70 [l0, l1, l2, l3, l4, l5, l6, l7] [vR (some a0), vR z1] h Q ↔ Rn r 285 73 [l0, l1, l2, l3, l4, l5, l6, l7] [vI (hI h a0 11), vR z1] h Q := Rn_nx pg285 rfl (if_pos ⟨(hk ▸ Nat.le_refl _), (hk ▸ Nat.le_refl _)⟩)
theorem sX22_again_73 : Rn r 285 73 [l0, l1, l2, l3, l4, l5, l6, l7] [vI x0, vR z1] h Q ↔ Rn r 285 74 [l0, l1, l2, l3, l4, l5, l6, l7] [vI 4, vI x0, vR z1] h Q := Rn_nx pg285 rfl rfl
theorem sX22_again_74 : Rn r 285 74 [l0, l1, l2, l3, l4, l5, l6, l7] [vI x0, vI x1, vR z2] h Q ↔ Rn r 285 75 [l0, l1, l2, l3, l4, l5, l6, l7] [vI (x1 ||| x0), vR z2] h Q := Rn_nx pg285 rfl rfl
theorem sX22_again_75 : Rn r 285 75 [l0, l1, l2, l3, l4, l5, l6, l7] [vI x0, vR z1] h Q ↔ Rn r 285 77 [l0, l1, l2, l3, l4, l5, l6, l7] [vI 8, vI x0, vR z1] h Q := Rn_nx pg285 rfl rfl
theorem sX22_again_77 : Rn r 285 77 [l0, l1, l2, l3, l4, l5, l6, l7] [vI x0, vI x1, vR z2] h Q ↔ Rn r 285 78 [l0, l1, l2, l3, l4, l5, l6, l7] [vI (x1 ||| x0), vR z2] h Q := Rn_nx pg285 rfl rfl
theorem sX22_again_78 : Rn r 285 78 [l0, l1, some (vI x), l3, l4, l5, l6, l7] [vI x0, vR z1] h Q ↔ Rn r 285 79 [l0, l1, some (vI x), l3, l4, l5, l6, l7] [vI x, vI x0, vR z1] h Q := Rn_nx pg285 rfl rfl
theorem sX22_again_79 (hk : hK h a2 = 5) : Rn r 285 79 [l0, l1, l2, l3, l4, l5, l6, l7] [vI x0, vI x1, vR (some a2)] h Q ↔ Cl r 178 [vR (some a2), vI x1, vI x0] h (Kt r 285 82 [l0, l1, l2, l3, l4, l5, l6, l7] [] Q) := Rn_call pg285 rfl (by simp only [am_exec, am_inv, am_pop, am_lk, hk]; rfl) pg178 rfl rfl rfl
theorem sX22_again_82 : Rn r 285 82 [l0, l1, l2, l3, l4, l5, l6, l7] [vI x0] h Q ↔ Rn r 285 83 [l0, l1, l2, some (vI x0), l4, l5, l6, l7] [] h Q := Rn_nx pg285 rfl rfl
theorem sX22_again_83 : Rn r 285 83 [l0, l1, l2, l3, l4, l5, l6, l7] [] h Q ↔ Rn r 285 84 [l0, l1, l2, l3, l4, l5, l6, l7] [vI 0] h Q := Rn_nx pg285 rfl rfl
theorem sX22_again_84 : Rn r 285 84 [l0, l1, l2, l3, l4, l5, l6, l7] [vI x0] h Q ↔ Rn r 285 86 [l0, l1, l2, l3, some (vI x0), l5, l6, l7] [] h Q := Rn_nx pg285 rfl rfl
theorem sX22_again_86 : Rn r 285 86 [l0, l1, l2, l3, l4, l5, l6, l7] [] h Q ↔ Rn r 285 87 [l0, l1, l2, l3, l4, l5, l6, l7] [vI 0] h Q := Rn_nx pg285 rfl rfl
theorem sX22_again_87 : Rn r 285 87 [l0, l1, l2, l3, l4, l5, l6, l7] [vI x0] h Q ↔ Rn r 285 89 [l0, l1, l2, l3, l4, some (vI x0), l6, l7] [] h Q := Rn_nx pg285 rfl rfl
theorem sX22_again_89 : Rn r 285 89 [l0, l1, l2, l3, l4, some (vI x), l6, l7] [] h Q ↔ Rn r 285 91 [l0, l1, l2, l3, l4, some (vI x), l6, l7] [vI x] h Q := Rn_nx pg285 rfl rfl
theorem sX22_again_91 : Rn r 285 91 [l0, some (vR z), l2, l3, l4, l5, l6, l7] [vI x0] h Q ↔ Rn r 285 92 [l0, some (vR z), l2, l3, l4, l5, l6, l7] [vR z, vI x0] h Q := Rn_nx pg285 rfl rfl
theorem sX22_again_92 (hk : hK h a0 = 5) : Rn r 285 92 [l0, l1, l2, l3, l4, l5, l6, l7] [vR (some a0), vI x1] h Q ↔ Rn r 285 95 [l0, l1, l2, l3, l4, l5, l6, l7] [vR (hR h a0 0), vI x1] h Q := Rn_nx pg285 rfl (if_pos ⟨(hk ▸ Nat.le_refl _), (hk ▸ Nat.le_refl _)⟩)
theorem sX22_again_95 (hk : hK h a0 = 4) : Rn r 285 95 [l0, l1, l2, l3, l4, l5, l6, l7] [vR (some a0), vI x1] h Q ↔ Cl r 34 [vR (some a0)] h (Kt r 285 98 [l0, l1, l2, l3, l4, l5, l6, l7] [vI x1] Q) := Rn_call pg285 rfl (by simp only [am_exec, am_inv, am_pop, am_lk, hk]; rfl) pg34 rfl rfl rfl
theorem sX22_again_98 : Rn r 285 98 [l0, l1, l2, l3, l4, l5, l6, l7] [vI x0, vI x1] h Q ↔ if x0 ≤ x1 then Rn r 285 223 [l0, l1, l2, l3, l4, l5, l6, l7] [] h Q else Rn r 285 101 [l0, l1, l2, l3, l4, l5, l6, l7] [] h Q := Rn_if pg285 rfl rfl rfl
theorem sX22_again_101 : Rn r 285 101 [l0, l1, l2, l3, l4, l5, l6, l7] [] h Q ↔ Rn r 285 102 [l0, l1, l2, l3, l4, l5, l6, l7] [vI 0] h Q := Rn_nx pg285 rfl rfl
theorem sX22_again_102 : Rn r 285 102 [l0, l1, l2, l3, l4, l5, l6, l7] [vI x0] h Q ↔ Rn r 285 104 [l0, l1, l2, l3, l4, l5, some (vI x0), l7] [] h Q := Rn_nx pg285 rfl rfl
theorem sX22_again_104 : Rn r 285 104 [l0, l1, l2, l3, l4, l5, some (vI x), l7] [] h Q ↔ Rn r 285 106 [l0, l1, l2, l3, l4, l5, some (vI x), l7] [vI x] h Q := Rn_nx pg285 rfl rfl
theorem sX22_again_106 : Rn r 285 106 [some (vR z), l1, l2, l3, l4, l5, l6, l7] [vI x0] h Q ↔ Rn r 285 107 [some (vR z), l1, l2, l3, l4, l5, l6, l7] [vR z, vI x0] h Q := Rn_nx pg285 rfl rfl
theorem sX22_again_107 (hk : hK h a0 = 22) : Rn r 285 107 [l0, l1, l2, l3, l4, l5, l6, l7] [vR (some a0), vI x1] h Q ↔ Rn r 285 110 [l0, l1, l2, l3, l4, l5, l6, l7] [vR (hR h a0 1), vI x1] h Q := Rn_nx pg285 rfl (if_pos ⟨(hk ▸ Nat.le_refl _), (hk ▸ Nat.le_refl _)⟩)
theorem sX22_again_110 (hk : hK h a0 = 4) : Rn r 285 110 [l0, l1, l2, l3, l4, l5, l6, l7] [vR (some a0), vI x1] h Q ↔ Cl r 34 [vR (some a0)] h (Kt r 285 113 [l0, l1, l2, l3, l4, l5, l6, l7] [vI x1] Q) := Rn_call pg285 rfl (by simp only [am_exec, am_inv, am_pop, am_lk, hk]; rfl) pg34 rfl rfl rfl
theorem sX22_again_113 : Rn r 285 113 [l0, l1, l2, l3, l4, l5, l6, l7] [vI x0, vI x1] h Q ↔ if x0 ≤ x1 then Rn r 285 217 [l0, l1, l2, l3, l4, l5, l6, l7] [] h Q else Rn r 285 116 [l0, l1, l2, l3, l4, l5, l6, l7] [] h Q := Rn_if pg285 rfl rfl rfl
theorem sX22_again_116 : Rn r 285 116 [l0, l1, l2, some (vI x), l4, l5, l6, l7] [] h Q ↔ Rn r 285 117 [l0, l1, l2, some (vI x), l4, l5, l6, l7] [vI x] h Q := Rn_nx pg285 rfl rfl
theorem sX22_again_117 : Rn r 285 117 [l0, l1, l2, l3, l4, some (vI x), l6, l7] [vI x0] h Q ↔ Rn r 285 119 [l0, l1, l2, l3, l4, some (vI x), l6, l7] [vI x, vI x0] h Q := Rn_nx pg285 rfl rfl
theorem sX22_again_119 : Rn r 285 119 [l0, l1, l2, l3, l4, l5, l6, l7] [vI x0, vI x1] h Q ↔ Rn r 285 120 [l0, l1, l2, l3, l4, l5, l6, l7] [vI (x1 >>> (x0 &&& 31))] h Q := Rn_nx pg285 rfl rfl
theorem sX22_again_120 : Rn r 285 120 [l0, l1, l2, l3, l4, l5, l6, l7] [vI x0] h Q ↔ Rn r 285 121 [l0, l1, l2, l3, l4, l5, l6, l7] [vI 1, vI x0] h Q := Rn_nx pg285 rfl rfl
theorem sX22_again_121 : Rn r 285 121 [l0, l1, l2, l3, l4, l5, l6, l7] [vI x0, vI x1] h Q ↔ Rn r 285 122 [l0, l1, l2, l3, l4, l5, l6, l7] [vI (x1 &&& x0)] h Q := Rn_nx pg285 rfl rfl
theorem sX22_again_122 : Rn r 285 122 [l0, l1, l2, l3, l4, l5, l6, l7] [vI x0] h Q ↔ Rn r 285 123 [l0, l1, l2, l3, l4, l5, l6, l7] [vI 1, vI x0] h Q := Rn_nx pg285 rfl rfl
theorem sX22_again_123 : Rn r 285 123 [l0, l1, l2, l3, l4, l5, l6, l7] [vI x0, vI x1] h Q ↔ if x1 ≠ x0 then Rn r 285 217 [l0, l1, l2, l3, l4, l5, l6, l7] [] h Q else Rn r 285 126 [l0, l1, l2, l3, l4, l5, l6, l7] [] h Q := Rn_if pg285 rfl rfl rfl
theorem sX22_again_126 : Rn r 285 126 [some (vR z), l1, l2, l3, l4, l5, l6, l7] [] h Q ↔ Rn r 285 127 [some (vR z), l1, l2, l3, l4, l5, l6, l7] [vR z] h Q := Rn_nx pg285 rfl rfl
theorem sX22_again_127 (hk : hK h a0 = 22) : Rn r 285 127 [l0, l1, l2, l3, l4, l5, l6, l7] [vR (some a0)] h Q ↔ Rn r 285 130 [l0, l1, l2, l3, l4, l5, l6, l7] [vR (hR h a0 1)] h Q := Rn_nx pg285 rfl (if_pos ⟨(hk ▸ Nat.le_refl _), (hk ▸ Nat.le_refl _)⟩)
theorem sX22_again_130 : Rn r 285 130 [l0, l1, l2, l3, l4, l5, some (vI x), l7] [vR z0] h Q ↔ Rn r 285 132 [l0, l1, l2, l3, l4, l5, some (vI x), l7] [vI x, vR z0] h Q := Rn_nx pg285 rfl rfl
theorem sX22_again_132 (hk : hK h a1 = 4) : Rn r 285 132 [l0, l1, l2, l3, l4, l5, l6, l7] [vI x0, vR (some a1)] h Q ↔ Cl r 43 [vR (some a1), vI x0] h (Kt r 285 135 [l0, l1, l2, l3, l4, l5, l6, l7] [] Q) := Rn_call pg285 rfl (by simp only [am_exec, am_inv, am_pop, am_lk, hk]; rfl) pg43 rfl rfl rfl
theorem sX22_again_135_n : Rn r 285 135 [l0, l1, l2, l3, l4, l5, l6, l7] [vR none] h Q ↔ Rn r 285 138 [l0, l1, l2, l3, l4, l5, l6, l7] [vR none] h Q := Rn_nx pg285 rfl rfl
theorem sX22_again_135 (hk : hK h a0 ∈ [19]) : Rn r 285 135 [l0, l1, l2, l3, l4, l5, l6, l7] [vR (some a0)] h Q ↔ Rn r 285 138 [l0, l1, l2, l3, l4, l5, l6, l7] [vR (some a0)] h Q := Rn_nx pg285 rfl (if_pos hk)
theorem sX22_again_138 (hk : hK h a0 = 19) : Rn r 285 138 [l0, l1, l2, l3, l4, l5, l6, l7] [vR (some a0)] h Q ↔ Rn r 285 141 [l0, l1, l2, l3, l4, l5, l6, l7] [vR (hR h a0 0)] h Q := Rn_nx pg285 rfl (if_pos ⟨(hk ▸ Nat.le_refl _), (hk ▸ Nat.le_refl _)⟩)
theorem sX22_again_141 : Rn r 285 141 [l0, l1, l2, l3, l4, l5, l6, l7] [vR z0] h Q ↔ Rn r 285 143 [l0, l1, l2, l3, l4, l5, l6, some (vR z0)] [] h Q := Rn_nx pg285 rfl rfl
theorem sX22_again_143 : Rn r 285 143 [l0, l1, l2, l3, l4, l5, l6, some (vR z)] [] h Q ↔ Rn r 285 145 [l0, l1, l2, l3, l4, l5, l6, some (vR z)] [vR z] h Q := Rn_nx pg285 rfl rfl
theorem sX22_again_145 : Rn r 285 145 [l0, l1, l2, l3, l4, l5, l6, l7] [vR z0] h Q ↔ if z0 = none then Rn r 285 211 [l0, l1, l2, l3, l4, l5, l6, l7] [] h Q else Rn r 285 148 [l0, l1, l2, l3, l4, l5, l6, l7] [] h Q := Rn_if pg285 rfl rfl rfl
theorem sX22_again_148 : Rn r 285 148 [l0, l1, l2, l3, some (vI x), l5, l6, l7] [] h Q ↔ Rn r 285 150 [l0, l1, l2, l3, some (vI x), l5, l6, l7] [vI x] h Q := Rn_nx pg285 rfl rfl
theorem sX22_again_150 : Rn r 285 150 [l0, some (vR z), l2, l3, l4, l5, l6, l7] [vI x0] h Q ↔ Rn r 285 151 [l0, some (vR z), l2, l3, l4, l5, l6, l7] [vR z, vI x0] h Q := Rn_nx pg285 rfl rfl
theorem sX22_again_151 (hk : hK h a0 = 5) : Rn r 285 151 [l0, l1, l2, l3, l4, l5, l6, l7] [vR (some a0), vI x1] h Q ↔ Rn r 285 154 [l0, l1, l2, l3, l4, l5, l6, l7] [vR (hR h a0 0), vI x1] h Q := Rn_nx pg285 rfl (if_pos ⟨(hk ▸ Nat.le_refl _), (hk ▸ Nat.le_refl _)⟩)
theorem sX22_again_154 : Rn r 285 154 [l0, l1, l2, l3, l4, some (vI x), l6, l7] [vR z0, vI x1] h Q ↔ Rn r 285 156 [l0, l1, l2, l3, l4, some (vI x), l6, l7] [vI x, vR z0, vI x1] h Q := Rn_nx pg285 rfl rfl
theorem sX22_again_156 (hk : hK h a1 = 4) : Rn r 285 156 [l0, l1, l2, l3, l4, l5, l6, l7] [vI x0, vR (some a1), vI x2] h Q ↔ Cl r 43 [vR (some a1), vI x0] h (Kt r 285 159 [l0, l1, l2, l3, l4, l5, l6, l7] [vI x2] Q) := Rn_call pg285 rfl (by simp only [am_exec, am_inv, am_pop, am_lk, hk]; rfl) pg43 rfl rfl rfl
theorem sX22_again_159_n : Rn r 285 159 [l0, l1, l2, l3, l4, l5, l6, l7] [vR none, vI x1] h Q ↔ Rn r 285 162 [l0, l1, l2, l3, l4, l5, l6, l7] [vR none, vI x1] h Q := Rn_nx pg285 rfl rfl
theorem sX22_again_159 (hk : hK h a0 ∈ [7]) : Rn r 285 159 [l0, l1, l2, l3, l4, l5, l6, l7] [vR (some a0), vI x1] h Q ↔ Rn r 285 162 [l0, l1, l2, l3, l4, l5, l6, l7] [vR (some a0), vI x1] h Q := Rn_nx pg285 rfl (if_pos hk)
theorem sX22_again_162 : Rn r 285 162 [l0, l1, l2, l3, l4, l5, l6, some (vR z)] [vR z0, vI x1] h Q ↔ Rn r 285 164 [l0, l1, l2, l3, l4, l5, l6, some (vR z)] [vR z, vR z0, vI x1] h Q := Rn_nx pg285 rfl rfl
theorem sX22_again_164 (hk : hK h a1 = 7) : Rn r 285 164 [l0, l1, l2, l3, l4, l5, l6, l7] [vR z0, vR (some a1), vI x2] h Q ↔ Cl r 47 [vR (some a1), vR z0] h (Kt r 285 167 [l0, l1, l2, l3, l4, l5, l6, l7] [vI x2] Q) := Rn_call pg285 rfl (by simp only [am_exec, am_inv, am_pop, am_lk, hk]; rfl) pg47 rfl rfl rfl
theorem sX22_again_167 : Rn r 285 167 [l0, l1, l2, l3, l4, l5, l6, l7] [vI x0, vI x1] h Q ↔ if x0 = 0 then Rn r 285 177 [l0, l1, l2, l3, l4, l5, l6, l7] [vI x1] h Q else Rn r 285 170 [l0, l1, l2, l3, l4, l5, l6, l7] [vI x1] h Q := Rn_if pg285 rfl rfl rfl
theorem sX22_again_170 : Rn r 285 170 [l0, l1, l2, l3, l4, l5, l6, l7] [vI x0] h Q ↔ Rn r 285 171 [l0, l1, l2, l3, l4, l5, l6, l7] [vI 1, vI x0] h Q := Rn_nx pg285 rfl rfl
theorem sX22_again_171 : Rn r 285 171 [l0, l1, l2, l3, l4, some (vI x), l6, l7] [vI x0, vI x1] h Q ↔ Rn r 285 173 [l0, l1, l2, l3, l4, some (vI x), l6, l7] [vI x, vI x0, vI x1] h Q := Rn_nx pg285 rfl rfl
theorem sX22_again_173 : Rn r 285 173 [l0, l1, l2, l3, l4, l5, l6, l7] [vI x0, vI x1, vI x2] h Q ↔ Rn r 285 174 [l0, l1, l2, l3, l4, l5, l6, l7] [vI (x1 <<< (x0 &&& 31)), vI x2] h Q := Rn_nx pg285 rfl rfl
theorem sX22_again_174 : Rn r 285 174 [l0, l1, l2, l3, l4, l5, l6, l7] [vI x0, vI x1] h Q ↔ Rn r 285 208 [l0, l1, l2, l3, l4, l5, l6, l7] [vI x0, vI x1] h Q := Rn_nx pg285 rfl rfl
theorem sX22_again_177 : Rn r 285 177 [l0, l1, l2, l3, l4, l5, l6, some (vR z)] [vI x0] h Q ↔ Rn r 285 179 [l0, l1, l2, l3, l4, l5, l6, some (vR z)] [vR z, vI x0] h Q := Rn_nx pg285 rfl rfl
theorem sX22_again_179 : Rn r 285 179 [l0, some (vR z), l2, l3, l4, l5, l6, l7] [vR z0, vI x1] h Q ↔ Rn r 285 180 [l0, some (vR z), l2, l3, l4, l5, l6, l7] [vR z, vR z0, vI x1] h Q := Rn_nx pg285 rfl rfl
theorem sX22_again_180 (hk : hK h a0 = 5) : Rn r 285 180 [l0, l1, l2, l3, l4, l5, l6, l7] [vR (some a0), vR z1, vI x2] h Q ↔ Rn r 285 183 [l0, l1, l2, l3, l4, l5, l6, l7] [vR (hR h a0 0), vR z1, vI x2] h Q := Rn_nx pg285 rfl (if_pos ⟨(hk ▸ Nat.le_refl _), (hk ▸ Nat.le_refl _)⟩)
theorem sX22_again_183 : Rn r 285 183 [l0, l1, l2, l3, l4, some (vI x), l6, l7] [vR z0, vR z1, vI x2] h Q ↔ Rn r 285 185 [l0, l1, l2, l3, l4, some (vI x), l6, l7] [vI x, vR z0, vR z1, vI x2] h Q := Rn_nx pg285 rfl rfl
theorem sX22_again_185 (hk : hK h a1 = 4) : Rn r 285 185 [l0, l1, l2, l3, l4, l5, l6, l7] [vI x0, vR (some a1), vR z2, vI x3] h Q ↔ Cl r 43 [vR (some a1), vI x0] h (Kt r 285 188 [l0, l1, l2, l3, l4, l5, l6, l7] [vR z2, vI x3] Q) := Rn_call pg285 rfl (by simp only [am_exec, am_inv, am_pop, am_lk, hk]; rfl) pg43 rfl rfl rfl
theorem sX22_again_188_n : Rn r 285 188 [l0, l1, l2, l3, l4, l5, l6, l7] [vR none, vR z1, vI x2] h Q ↔ Rn r 285 191 [l0, l1, l2, l3, l4, l5, l6, l7] [vR none, vR z1, vI x2] h Q := Rn_nx pg285 rfl rfl
theorem sX22_again_188 (hk : hK h a0 ∈ [7]) : Rn r 285 188 [l0, l1, l2, l3, l4, l5, l6, l7] [vR (some a0), vR z1, vI x2] h Q ↔ Rn r 285 191 [l0, l1, l2, l3, l4, l5, l6, l7] [vR (some a0), vR z1, vI x2] h Q := Rn_nx pg285 rfl (if_pos hk)
theorem sX22_again_191 (hk : hK h a1 = 7) : Rn r 285 191 [l0, l1, l2, l3, l4, l5, l6, l7] [vR z0, vR (some a1), vI x2] h Q ↔ Cl r 47 [vR (some a1), vR z0] h (Kt r 285 194 [l0, l1, l2, l3, l4, l5, l6, l7] [vI x2] Q) := Rn_call pg285 rfl (by simp only [am_exec, am_inv, am_pop, am_lk, hk]; rfl) pg47 rfl rfl rfl
theorem sX22_again_194 : Rn r 285 194 [l0, l1, l2, l3, l4, l5, l6, l7] [vI x0, vI x1] h Q ↔ if x0 = 0 then Rn r 285 207 [l0, l1, l2, l3, l4, l5, l6, l7] [vI x1] h Q else Rn r 285 197 [l0, l1, l2, l3, l4, l5, l6, l7] [vI x1] h Q := Rn_if pg285 rfl rfl rfl
theorem sX22_again_197 : Rn r 285 197 [l0, l1, l2, l3, l4, l5, l6, l7] [vI x0] h Q ↔ Rn r 285 198 [l0, l1, l2, l3, l4, l5, l6, l7] [vI 1, vI x0] h Q := Rn_nx pg285 rfl rfl
theorem sX22_again_198 : Rn r 285 198 [l0, l1, l2, l3, l4, l5, l6, some (vR z)] [vI x0, vI x1] h Q ↔ Rn r 285 200 [l0, l1, l2, l3, l4, l5, l6, some (vR z)] [vR z, vI x0, vI x1] h Q := Rn_nx pg285 rfl rfl
theorem sX22_again_200 (hk : hK h a0 = 7) : Rn r 285 200 [l0, l1, l2, l3, l4, l5, l6, l7] [vR (some a0), vI x1, vI x2] h Q ↔ Rn r 285 203 [l0, l1, l2, l3, l4, l5, l6, l7] [vI (hI h a0 1), vI x1, vI x2] h Q := Rn_nx pg285 rfl (if_pos ⟨(hk ▸ Nat.le_refl _), (hk ▸ Nat.le_refl _)⟩)
theorem sX22_again_203 : Rn r 285 203 [l0, l1, l2, l3, l4, l5, l6, l7] [vI x0, vI x1, vI x2] h Q ↔ Rn r 285 204 [l0, l1, l2, l3, l4, l5, l6, l7] [vI (x1 <<< (x0 &&& 31)), vI x2] h Q := Rn_nx pg285 rfl rfl
theorem sX22_again_204 : Rn r 285 204 [l0, l1, l2, l3, l4, l5, l6, l7] [vI x0, vI x1] h Q ↔ Rn r 285 208 [l0, l1, l2, l3, l4, l5, l6, l7] [vI x0, vI x1] h Q := Rn_nx pg285 rfl rfl
theorem sX22_again_207 : Rn r 285 207 [l0, l1, l2, l3, l4, l5, l6, l7] [vI x0] h Q ↔ Rn r 285 208 [l0, l1, l2, l3, l4, l5, l6, l7] [vI 0, vI x0] h Q := Rn_nx pg285 rfl rfl
theorem sX22_again_208 : Rn r 285 208 [l0, l1, l2, l3, l4, l5, l6, l7] [vI x0, vI x1] h Q ↔ Rn r 285 209 [l0, l1, l2, l3, l4, l5, l6, l7] [vI (x1 ||| x0)] h Q := Rn_nx pg285 rfl rfl
theorem sX22_again_209 : Rn r 285 209 [l0, l1, l2, l3, l4, l5, l6, l7] [vI x0] h Q ↔ Rn r 285 211 [l0, l1, l2, l3, some (vI x0), l5, l6, l7] [] h Q := Rn_nx pg285 rfl rfl
theorem sX22_again_211 : Rn r 285 211 [l0, l1, l2, l3, l4, l5, some (vI x), l7] [] h Q ↔ Rn r 285 214 [l0, l1, l2, l3, l4, l5, some (vI (x + 1)), l7] [] h Q := Rn_nx pg285 rfl rfl
theorem sX22_again_214 : Rn r 285 214 [l0, l1, l2, l3, l4, l5, l6, l7] [] h Q ↔ Rn r 285 104 [l0, l1, l2, l3, l4, l5, l6, l7] [] h Q := Rn_nx pg285 rfl rfl
theorem sX22_again_217 : Rn r 285 217 [l0, l1, l2, l3, l4, some (vI x), l6, l7] [] h Q ↔ Rn r 285 220 [l0, l1, l2, l3, l4, some (vI (x + 1)), l6, l7] [] h Q := Rn_nx pg285 rfl rfl
theorem sX22_again_220 : Rn r 285 220 [l0, l1, l2, l3, l4, l5, l6, l7] [] h Q ↔ Rn r 285 89 [l0, l1, l2, l3, l4, l5, l6, l7] [] h Q := Rn_nx pg285 rfl rfl
theorem sX22_again_223 : Rn r 285 223 [l0, l1, l2, l3, some (vI x), l5, l6, l7] [] h Q ↔ Rn r 285 225 [l0, l1, l2, l3, some (vI x), l5, l6, l7] [vI x] h Q := Rn_nx pg285 rfl rfl
theorem sX22_again_225 : Rn r 285 225 [l0, l1, l2, l3, l4, l5, l6, l7] [vI x0] h Q ↔ Q (Sum.inl (some (vI x0))) h := Rn_end pg285 rfl rfl
/-! 286 ThrowRules$Try.judge(LThrowRules$Unit;LThrowRules$Catch;I)V -/
theorem eX20_judge : Cl r 286 [vR z0, vR z1, vR z2, vI x3] h Q ↔ Rn r 286 0 [some (vR z0), some (vR z1), some (vR z2), some (vI x3), none, none, none, none, none, none, none, none] [] h Q := Cl_in pg286 rfl
theorem sX20_judge_0 : Rn r 286 0 [l0, l1, l2, l3, l4, l5, l6, l7, l8, l9, l10, l11] [] h Q ↔ Rn r 286 1 [l0, l1, l2, l3, l4, l5, l6, l7, l8, l9, l10, l11] [vI 0] h Q := Rn_nx pg286 rfl rfl
theorem sX20_judge_1 : Rn r 286 1 [l0, l1, l2, l3, l4, l5, l6, l7, l8, l9, l10, l11] [vI x0] h Q ↔ Rn r 286 3 [l0, l1, l2, l3, some (vI x0), l5, l6, l7, l8, l9, l10, l11] [] h Q := Rn_nx pg286 rfl rfl
theorem sX20_judge_3 : Rn r 286 3 [l0, l1, l2, l3, some (vI x), l5, l6, l7, l8, l9, l10, l11] [] h Q ↔ Rn r 286 5 [l0, l1, l2, l3, some (vI x), l5, l6, l7, l8, l9, l10, l11] [vI x] h Q := Rn_nx pg286 rfl rfl
theorem sX20_judge_5 : Rn r 286 5 [l0, l1, some (vR z), l3, l4, l5, l6, l7, l8, l9, l10, l11] [vI x0] h Q ↔ Rn r 286 6 [l0, l1, some (vR z), l3, l4, l5, l6, l7, l8, l9, l10, l11] [vR z, vI x0] h Q := Rn_nx pg286 rfl rfl
theorem sX20_judge_6 (hk : hK h a0 = 22) : Rn r 286 6 [l0, l1, l2, l3, l4, l5, l6, l7, l8, l9, l10, l11] [vR (some a0), vI x1] h Q ↔ Rn r 286 9 [l0, l1, l2, l3, l4, l5, l6, l7, l8, l9, l10, l11] [vR (hR h a0 1), vI x1] h Q := Rn_nx pg286 rfl (if_pos ⟨(hk ▸ Nat.le_refl _), (hk ▸ Nat.le_refl _)⟩)
theorem sX20_judge_9 (hk : hK h a0 = 4) : Rn r 286 9 [l0, l1, l2, l3, l4, l5, l6, l7, l8, l9, l10, l11] [vR (some a0), vI x1] h Q ↔ Cl r 34 [vR (some a0)] h (Kt r 286 12 [l0, l1, l2, l3, l4, l5, l6, l7, l8, l9, l10, l11] [vI x1] Q) := Rn_call pg286 rfl (by simp only [am_exec, am_inv, am_pop, am_lk, hk]; rfl) pg34 rfl rfl rfl
theorem sX20_judge_12 : Rn r 286 12 [l0, l1, l2, l3, l4, l5, l6, l7, l8, l9, l10, l11] [vI x0, vI x1] h Q ↔ if x0 ≤ x1 then Rn r 286 312 [l0, l1, l2, l3, l4, l5, l6, l7, l8, l9, l10, l11] [] h Q else Rn r 286 15 [l0, l1, l2, l3, l4, l5, l6, l7, l8, l9, l10, l11] [] h Q := Rn_if pg286 rfl rfl rfl
theorem sX20_judge_15 : Rn r 286 15 [l0, l1, some (vR z), l3, l4, l5, l6, l7, l8, l9, l10, l11] [] h Q ↔ Rn r 286 16 [l0, l1, some (vR z), l3, l4, l5, l6, l7, l8, l9, l10, l11] [vR z] h Q := Rn_nx pg286 rfl rfl
theorem sX20_judge_16 (hk : hK h a0 = 22) : Rn r 286 16 [l0, l1, l2, l3, l4, l5, l6, l7, l8, l9, l10, l11] [vR (some a0)] h Q ↔ Rn r 286 19 [l0, l1, l2, l3, l4, l5, l6, l7, l8, l9, l10, l11] [vR (hR h a0 1)] h Q := Rn_nx pg286 rfl (if_pos ⟨(hk ▸ Nat.le_refl _), (hk ▸ Nat.le_refl _)⟩)
theorem sX20_judge_19 : Rn r 286 19 [l0, l1, l2, l3, some (vI x), l5, l6, l7, l8, l9, l10, l11] [vR z0] h Q ↔ Rn r 286 21 [l0, l1, l2, l3, some (vI x), l5, l6, l7, l8, l9, l10, l11] [vI x, vR z0] h Q := Rn_nx pg286 rfl rfl
theorem sX20_judge_21 (hk : hK h a1 = 4) : Rn r 286 21 [l0, l1, l2, l3, l4, l5, l6, l7, l8, l9, l10, l11] [vI x0, vR (some a1)] h Q ↔ Cl r 43 [vR (some a1), vI x0] h (Kt r 286 24 [l0, l1, l2, l3, l4, l5, l6, l7, l8, l9, l10, l11] [] Q) := Rn_call pg286 rfl (by simp only [am_exec, am_inv, am_pop, am_lk, hk]; rfl) pg43 rfl rfl rfl
theorem sX20_judge_24_n : Rn r 286 24 [l0, l1, l2, l3, l4, l5, l6, l7, l8, l9, l10, l11] [vR none] h Q ↔ Rn r 286 27 [l0, l1, l2, l3, l4, l5, l6, l7, l8, l9, l10, l11] [vR none] h Q := Rn_nx pg286 rfl rfl
theorem sX20_judge_24 (hk : hK h a0 ∈ [19]) : Rn r 286 24 [l0, l1, l2, l3, l4, l5, l6, l7, l8, l9, l10, l11] [vR (some a0)] h Q ↔ Rn r 286 27 [l0, l1, l2, l3, l4, l5, l6, l7, l8, l9, l10, l11] [vR (some a0)] h Q := Rn_nx pg286 rfl (if_pos hk)
theorem sX20_judge_27 (hk : hK h a0 = 19) : Rn r 286 27 [l0, l1, l2, l3, l4, l5, l6, l7, l8, l9, l10, l11] [vR (some a0)] h Q ↔ Rn r 286 30 [l0, l1, l2, l3, l4, l5, l6, l7, l8, l9, l10, l11] [vR (hR h a0 0)] h Q := Rn_nx pg286 rfl (if_pos ⟨(hk ▸ Nat.le_refl _), (hk ▸ Nat.le_refl _)⟩)
theorem sX20_judge_30 : Rn r 286 30 [l0, l1, l2, l3, l4, l5, l6, l7, l8, l9, l10, l11] [vR z0] h Q ↔ Rn r 286 32 [l0, l1, l2, l3, l4, some (vR z0), l6, l7, l8, l9, l10, l11] [] h Q := Rn_nx pg286 rfl rfl
theorem sX20_judge_32 : Rn r 286 32 [l0, l1, some (vR z), l3, l4, l5, l6, l7, l8, l9, l10, l11] [] h Q ↔ Rn r 286 33 [l0, l1, some (vR z), l3, l4, l5, l6, l7, l8, l9, l10, l11] [vR z] h Q := Rn_nx pg286 rfl rfl
theorem sX20_judge_33 (hk : hK h a0 = 22) : Rn r 286 33 [l0, l1, l2, l3, l4, l5, l6, l7, l8, l9, l10, l11] [vR (some a0)] h Q ↔ Rn r 286 36 [l0, l1, l2, l3, l4, l5, l6, l7, l8, l9, l10, l11] [vR (hR h a0 1)] h Q := Rn_nx pg286 rfl (if_pos ⟨(hk ▸ Nat.le_refl _), (hk ▸ Nat.le_refl _)⟩)
theorem sX20_judge_36 : Rn r 286 36 [l0, l1, l2, l3, some (vI x), l5, l6, l7, l8, l9, l10, l11] [vR z0] h Q ↔ Rn r 286 38 [l0, l1, l2, l3, some (vI x), l5, l6, l7, l8, l9, l10, l11] [vI x, vR z0] h Q := Rn_nx pg286 rfl rfl
theorem sX20_judge_38 (hk : hK h a1 = 4) : Rn r 286 38 [l0, l1, l2, l3, l4, l5, l6, l7, l8, l9, l10, l11] [vI x0, vR (some a1)] h Q ↔ Cl r 43 [vR (some a1), vI x0] h (Kt r 286 41 [l0, l1, l2, l3, l4, l5, l6, l7, l8, l9, l10, l11] [] Q) := Rn_call pg286 rfl (by simp only [am_exec, am_inv, am_pop, am_lk, hk]; rfl) pg43 rfl rfl rfl
theorem sX20_judge_41_n : Rn r 286 41 [l0, l1, l2, l3, l4, l5, l6, l7, l8, l9, l10, l11] [vR none] h Q ↔ Rn r 286 44 [l0, l1, l2, l3, l4, l5, l6, l7, l8, l9, l10, l11] [vR none] h Q := Rn_nx pg286 rfl rfl
theorem sX20_judge_41 (hk : hK h a0 ∈ [19]) : Rn r 286 41 [l0, l1, l2, l3, l4, l5, l6, l7, l8, l9, l10, l11] [vR (some a0)] h Q ↔ Rn r 286 44 [l0, l1, l2, l3, l4, l5, l6, l7, l8, l9, l10, l11] [vR (some a0)] h Q := Rn_nx pg286 rfl (if_pos hk)
theorem sX20_judge_44 (hk : hK h a0 = 19) : Rn r 286 44 [l0, l1, l2, l3, l4, l5, l6, l7, l8, l9, l10, l11] [vR (some a0)] h Q ↔ Rn r 286 47 [l0, l1, l2, l3, l4, l5, l6, l7, l8, l9, l10, l11] [vI (hI h a0 1)] h Q := Rn_nx pg286 rfl (if_pos ⟨(hk ▸ Nat.le_refl _), (hk ▸ Nat.le_refl _)⟩)
theorem sX20_judge_47 : Rn r 286 47 [l0, l1, l2, l3, l4, l5, l6, l7, l8, l9, l10, l11] [vI x0] h Q ↔ Rn r 286 49 [l0, l1, l2, l3, l4, l5, some (vI x0), l7, l8, l9, l10, l11] [] h Q := Rn_nx pg286 rfl rfl
theorem sX20_judge_49 : Rn r 286 49 [l0, l1, l2, l3, l4, some (vR z), l6, l7, l8, l9, l10, l11] [] h Q ↔ Rn r 286 51 [l0, l1, l2, l3, l4, some (vR z), l6, l7, l8, l9, l10, l11] [vR z] h Q := Rn_nx pg286 rfl rfl
theorem sX20_judge_51 : Rn r 286 51 [l0, l1, l2, l3, l4, l5, l6, l7, l8, l9, l10, l11] [vR z0] h Q ↔ if z0 = none then Rn r 286 306 [l0, l1, l2, l3, l4, l5, l6, l7, l8, l9, l10, l11] [] h Q else Rn r 286 54 [l0, l1, l2, l3, l4, l5, l6, l7, l8, l9, l10, l11] [] h Q := Rn_if pg286 rfl rfl rfl
theorem sX20_judge_54 : Rn r 286 54 [l0, some (vR z), l2, l3, l4, l5, l6, l7, l8, l9, l10, l11] [] h Q ↔ Rn r 286 55 [l0, some (vR z), l2, l3, l4, l5, l6, l7, l8, l9, l10, l11] [vR z] h Q := Rn_nx pg286 rfl rfl
theorem sX20_judge_55 : Rn r 286 55 [l0, l1, l2, l3, l4, some (vR z), l6, l7, l8, l9, l10, l11] [vR z0] h Q ↔ Rn r 286 57 [l0, l1, l2, l3, l4, some (vR z), l6, l7, l8, l9, l10, l11] [vR z, vR z0] h Q := Rn_nx pg286 rfl rfl
theorem sX20_judge_57 (hk : hK h a1 = 5) : Rn r 286 57 [l0, l1, l2, l3, l4, l5, l6, l7, l8, l9, l10, l11] [vR z0, vR (some a1)] h Q ↔ Cl r 44 [vR (some a1), vR z0] h (Kt r 286 60 [l0, l1, l2, l3, l4, l5, l6, l7, l8, l9, l10, l11] [] Q) := Rn_call pg286 rfl (by simp only [am_exec, am_inv, am_pop, am_lk, hk]; rfl) pg44 rfl rfl rfl
theorem sX20_judge_60 : Rn r 286 60 [l0, l1, l2, l3, l4, l5, l6, l7, l8, l9, l10, l11] [vI x0] h Q ↔ if x0 = 0 then Rn r 286 80 [l0, l1, l2, l3, l4, l5, l6, l7, l8, l9, l10, l11] [] h Q else Rn r 286 63 [l0, l1, l2, l3, l4, l5, l6, l7, l8, l9, l10, l11] [] h Q := Rn_if pg286 rfl rfl rfl
theorem sX20_judge_63 : Rn r 286 63 [l0, l1, l2, l3, l4, some (vR z), l6, l7, l8, l9, l10, l11] [] h Q ↔ Rn r 286 65 [l0, l1, l2, l3, l4, some (vR z), l6, l7, l8, l9, l10, l11] [vR z] h Q := Rn_nx pg286 rfl rfl
theorem sX20_judge_65 (hk : hK h a0 = 7) : Rn r 286 65 [l0, l1, l2, l3, l4, l5, l6, l7, l8, l9, l10, l11] [vR (some a0)] h Q ↔ Rn r 286 68 [l0, l1, l2, l3, l4, l5, l6, l7, l8, l9, l10, l11] [vI (hI h a0 1)] h Q := Rn_nx pg286 rfl (if_pos ⟨(hk ▸ Nat.le_refl _), (hk ▸ Nat.le_refl _)⟩)
theorem sX20_judge_68 : Rn r 286 68 [l0, l1, l2, l3, l4, l5, l6, l7, l8, l9, l10, l11] [vI x0] h Q ↔ if x0 = 0 then Rn r 286 80 [l0, l1, l2, l3, l4, l5, l6, l7, l8, l9, l10, l11] [] h Q else Rn r 286 71 [l0, l1, l2, l3, l4, l5, l6, l7, l8, l9, l10, l11] [] h Q := Rn_if pg286 rfl rfl rfl
theorem sX20_judge_71 : Rn r 286 71 [l0, l1, l2, l3, l4, some (vR z), l6, l7, l8, l9, l10, l11] [] h Q ↔ Rn r 286 73 [l0, l1, l2, l3, l4, some (vR z), l6, l7, l8, l9, l10, l11] [vR z] h Q := Rn_nx pg286 rfl rfl
theorem sX20_judge_73 (hk : hK h a0 = 7) : Rn r 286 73 [l0, l1, l2, l3, l4, l5, l6, l7, l8, l9, l10, l11] [vR (some a0)] h Q ↔ Rn r 286 76 [l0, l1, l2, l3, l4, l5, l6, l7, l8, l9, l10, l11] [vI (hI h a0 1)] h Q := Rn_nx pg286 rfl (if_pos ⟨(hk ▸ Nat.le_refl _), (hk ▸ Nat.le_refl _)⟩)
theorem sX20_judge_76 : Rn r 286 76 [l0, l1, l2, l3, l4, l5, l6, l7, l8, l9, l10, l11] [vI x0] h Q ↔ Rn r 286 77 [l0, l1, l2, l3, l4, l5, l6, l7, l8, l9, l10, l11] [vI 1, vI x0] h Q := Rn_nx pg286 rfl rfl
theorem sX20_judge_77 : Rn r 286 77 [l0, l1, l2, l3, l4, l5, l6, l7, l8, l9, l10, l11] [vI x0, vI x1] h Q ↔ if x1 ≠ x0 then Rn r 286 84 [l0, l1, l2, l3, l4, l5, l6, l7, l8, l9, l10, l11] [] h Q else Rn r 286 80 [l0, l1, l2, l3, l4, l5, l6, l7, l8, l9, l10, l11] [] h Q := Rn_if pg286 rfl rfl rfl
theorem sX20_judge_80 : Rn r 286 80 [l0, l1, l2, l3, l4, l5, l6, l7, l8, l9, l10, l11] [] h Q ↔ Rn r 286 81 [l0, l1, l2, l3, l4, l5, l6, l7, l8, l9, l10, l11] [vI 1] h Q := Rn_nx pg286 rfl rfl
theorem sX20_judge_81 : Rn r 286 81 [l0, l1, l2, l3, l4, l5, l6, l7, l8, l9, l10, l11] [vI x0] h Q ↔ Rn r 286 85 [l0, l1, l2, l3, l4, l5, l6, l7, l8, l9, l10, l11] [vI x0] h Q := Rn_nx pg286 rfl rfl
theorem sX20_judge_84 : Rn r 286 84 [l0, l1, l2, l3, l4, l5, l6, l7, l8, l9, l10, l11] [] h Q ↔ Rn r 286 85 [l0, l1, l2, l3, l4, l5, l6, l7, l8, l9, l10, l11] [vI 0] h Q := Rn_nx pg286 rfl rfl
theorem sX20_judge_85 : Rn r 286 85 [l0, l1, l2, l3, l4, l5, l6, l7, l8, l9, l10, l11] [vI x0] h Q ↔ Rn r 286 87 [l0, l1, l2, l3, l4, l5, l6, some (vI x0), l8, l9, l10, l11] [] h Q := Rn_nx pg286 rfl rfl
theorem sX20_judge_87 : Rn r 286 87 [l0, some (vR z), l2, l3, l4, l5, l6, l7, l8, l9, l10, l11] [] h Q ↔ Rn r 286 88 [l0, some (vR z), l2, l3, l4, l5, l6, l7, l8, l9, l10, l11] [vR z] h Q := Rn_nx pg286 rfl rfl
theorem sX20_judge_88 : Rn r 286 88 [some (vR z), l1, l2, l3, l4, l5, l6, l7, l8, l9, l10, l11] [vR z0] h Q ↔ Rn r 286 89 [some (vR z), l1, l2, l3, l4, l5, l6, l7, l8, l9, l10, l11] [vR z, vR z0] h Q := Rn_nx pg286 rfl rfl
theorem sX20_judge_89 (hk : hK h a0 = 36) : Rn r 286 89 [l0, l1, l2, l3, l4, l5, l6, l7, l8, l9, l10, l11] [vR (some a0), vR z1] h Q ↔ Rn r 286 92 [l0, l1, l2, l3, l4, l5, l6, l7, l8, l9, l10, l11] [vI (hI h a0 11), vR z1] h Q := Rn_nx pg286 rfl (if_pos ⟨(hk ▸ Nat.le_refl _), (hk ▸ Nat.le_refl _)⟩)
theorem sX20_judge_92 (hk : hK h a1 = 5) : Rn r 286 92 [l0, l1, l2, l3, l4, l5, l6, l7, l8, l9, l10, l11] [vI x0, vR (some a1)] h Q ↔ Cl r 177 [vR (some a1), vI x0] h (Kt r 286 95 [l0, l1, l2, l3, l4, l5, l6, l7, l8, l9, l10, l11] [] Q) := Rn_call pg286 rfl (by simp only [am_exec, am_inv, am_pop, am_lk, hk]; rfl) pg177 rfl rfl rfl
theorem sX20_judge_95 : Rn r 286 95 [l0, l1, l2, l3, l4, l5, l6, l7, l8, l9, l10, l11] [vI x0] h Q ↔ Rn r 286 97 [l0, l1, l2, l3, l4, l5, l6, l7, some (vI x0), l9, l10, l11] [] h Q := Rn_nx pg286 rfl rfl
theorem sX20_judge_97 : Rn r 286 97 [l0, l1, l2, l3, l4, l5, l6, l7, l8, l9, l10, l11] [] h Q ↔ Rn r 286 98 [l0, l1, l2, l3, l4, l5, l6, l7, l8, l9, l10, l11] [vI 0] h Q := Rn_nx pg286 rfl rfl
theorem sX20_judge_98 : Rn r 286 98 [l0, l1, l2, l3, l4, l5, l6, l7, l8, l9, l10, l11] [vI x0] h Q ↔ Rn r 286 100 [l0, l1, l2, l3, l4, l5, l6, l7, l8, some (vI x0), l10, l11] [] h Q := Rn_nx pg286 rfl rfl
theorem sX20_judge_100 : Rn r 286 100 [l0, l1, l2, l3, l4, l5, l6, l7, l8, some (vI x), l10, l11] [] h Q ↔ Rn r 286 102 [l0, l1, l2, l3, l4, l5, l6, l7, l8, some (vI x), l10, l11] [vI x] h Q := Rn_nx pg286 rfl rfl
theorem sX20_judge_102 : Rn r 286 102 [l0, some (vR z), l2, l3, l4, l5, l6, l7, l8, l9, l10, l11] [vI x0] h Q ↔ Rn r 286 103 [l0, some (vR z), l2, l3, l4, l5, l6, l7, l8, l9, l10, l11] [vR z, vI x0] h Q := Rn_nx pg286 rfl rfl
theorem sX20_judge_103 (hk : hK h a0 = 5) : Rn r 286 103 [l0, l1, l2, l3, l4, l5, l6, l7, l8, l9, l10, l11] [vR (some a0), vI x1] h Q ↔ Rn r 286 106 [l0, l1, l2, l3, l4, l5, l6, l7, l8, l9, l10, l11] [vR (hR h a0 0), vI x1] h Q := Rn_nx pg286 rfl (if_pos ⟨(hk ▸ Nat.le_refl _), (hk ▸ Nat.le_refl _)⟩)
theorem sX20_judge_106 (hk : hK h a0 = 4) : Rn r 286 106 [l0, l1, l2, l3, l4, l5, l6, l7, l8, l9, l10, l11] [vR (some a0), vI x1] h Q ↔ Cl r 34 [vR (some a0)] h (Kt r 286 109 [l0, l1, l2, l3, l4, l5, l6, l7, l8, l9, l10, l11] [vI x1] Q) := Rn_call pg286 rfl (by simp only [am_exec, am_inv, am_pop, am_lk, hk]; rfl) pg34 rfl rfl rfl
theorem sX20_judge_109 : Rn r 286 109 [l0, l1, l2, l3, l4, l5, l6, l7, l8, l9, l10, l11] [vI x0, vI x1] h Q ↔ if x0 ≤ x1 then Rn r 286 179 [l0, l1, l2, l3, l4, l5, l6, l7, l8, l9, l10, l11] [] h Q else Rn r 286 112 [l0, l1, l2, l3, l4, l5, l6, l7, l8, l9, l10, l11] [] h Q := Rn_if pg286 rfl rfl rfl
theorem sX20_judge_112 : Rn r 286 112 [l0, l1, l2, l3, l4, l5, l6, some (vI x), l8, l9, l10, l11] [] h Q ↔ Rn r 286 114 [l0, l1, l2, l3, l4, l5, l6, some (vI x), l8, l9, l10, l11] [vI x] h Q := Rn_nx pg286 rfl rfl
theorem sX20_judge_114 : Rn r 286 114 [l0, l1, l2, l3, l4, l5, l6, l7, some (vI x), l9, l10, l11] [vI x0] h Q ↔ Rn r 286 116 [l0, l1, l2, l3, l4, l5, l6, l7, some (vI x), l9, l10, l11] [vI x, vI x0] h Q := Rn_nx pg286 rfl rfl
theorem sX20_judge_116 : Rn r 286 116 [l0, l1, l2, l3, l4, l5, l6, l7, l8, some (vI x), l10, l11] [vI x0, vI x1] h Q ↔ Rn r 286 118 [l0, l1, l2, l3, l4, l5, l6, l7, l8, some (vI x), l10, l11] [vI x, vI x0, vI x1] h Q := Rn_nx pg286 rfl rfl
theorem sX20_judge_118 : Rn r 286 118 [l0, l1, l2, l3, l4, l5, l6, l7, l8, l9, l10, l11] [vI x0, vI x1, vI x2] h Q ↔ Rn r 286 119 [l0, l1, l2, l3, l4, l5, l6, l7, l8, l9, l10, l11] [vI (x1 >>> (x0 &&& 31)), vI x2] h Q := Rn_nx pg286 rfl rfl
theorem sX20_judge_119 : Rn r 286 119 [l0, l1, l2, l3, l4, l5, l6, l7, l8, l9, l10, l11] [vI x0, vI x1] h Q ↔ Rn r 286 120 [l0, l1, l2, l3, l4, l5, l6, l7, l8, l9, l10, l11] [vI 1, vI x0, vI x1] h Q := Rn_nx pg286 rfl rfl
theorem sX20_judge_120 : Rn r 286 120 [l0, l1, l2, l3, l4, l5, l6, l7, l8, l9, l10, l11] [vI x0, vI x1, vI x2] h Q ↔ Rn r 286 121 [l0, l1, l2, l3, l4, l5, l6, l7, l8, l9, l10, l11] [vI (x1 &&& x0), vI x2] h Q := Rn_nx pg286 rfl rfl
theorem sX20_judge_121 : Rn r 286 121 [l0, l1, l2, l3, l4, l5, l6, l7, l8, l9, l10, l11] [vI x0, vI x1] h Q ↔ Rn r 286 122 [l0, l1, l2, l3, l4, l5, l6, l7, l8, l9, l10, l11] [vI 1, vI x0, vI x1] h Q := Rn_nx pg286 rfl rfl
theorem sX20_judge_122 : Rn r 286 122 [l0, l1, l2, l3, l4, l5, l6, l7, l8, l9, l10, l11] [vI x0, vI x1, vI x2] h Q ↔ if x1 ≠ x0 then Rn r 286 169 [l0, l1, l2, l3, l4, l5, l6, l7, l8, l9, l10, l11] [vI x2] h Q else Rn r 286 125 [l0, l1, l2, l3, l4, l5, l6, l7, l8, l9, l10, l11] [vI x2] h Q := Rn_if pg286 rfl rfl rfl
theorem sX20_judge_125 : Rn r 286 125 [l0, some (vR z), l2, l3, l4, l5, l6, l7, l8, l9, l10, l11] [vI x0] h Q ↔ Rn r 286 126 [l0, some (vR z), l2, l3, l4, l5, l6, l7, l8, l9, l10, l11] [vR z, vI x0] h Q := Rn_nx pg286 rfl rfl
theorem sX20_judge_126 (hk : hK h a0 = 5) : Rn r 286 126 [l0, l1, l2, l3, l4, l5, l6, l7, l8, l9, l10, l11] [vR (some a0), vI x1] h Q ↔ Rn r 286 129 [l0, l1, l2, l3, l4, l5, l6, l7, l8, l9, l10, l11] [vR (hR h a0 0), vI x1] h Q := Rn_nx pg286 rfl (if_pos ⟨(hk ▸ Nat.le_refl _), (hk ▸ Nat.le_refl _)⟩)
theorem sX20_judge_129 : Rn r 286 129 [l0, l1, l2, l3, l4, l5, l6, l7, l8, some (vI x), l10, l11] [vR z0, vI x1] h Q ↔ Rn r 286 131 [l0, l1, l2, l3, l4, l5, l6, l7, l8, some (vI x), l10, l11] [vI x, vR z0, vI x1] h Q := Rn_nx pg286 rfl rfl
theorem sX20_judge_131 (hk : hK h a1 = 4) : Rn r 286 131 [l0, l1, l2, l3, l4, l5, l6, l7, l8, l9, l10, l11] [vI x0, vR (some a1), vI x2] h Q ↔ Cl r 43 [vR (some a1), vI x0] h (Kt r 286 134 [l0, l1, l2, l3, l4, l5, l6, l7, l8, l9, l10, l11] [vI x2] Q) := Rn_call pg286 rfl (by simp only [am_exec, am_inv, am_pop, am_lk, hk]; rfl) pg43 rfl rfl rfl
theorem sX20_judge_134_n : Rn r 286 134 [l0, l1, l2, l3, l4, l5, l6, l7, l8, l9, l10, l11] [vR none, vI x1] h Q ↔ Rn r 286 137 [l0, l1, l2, l3, l4, l5, l6, l7, l8, l9, l10, l11] [vR none, vI x1] h Q := Rn_nx pg286 rfl rfl
theorem sX20_judge_134 (hk : hK h a0 ∈ [7]) : Rn r 286 134 [l0, l1, l2, l3, l4, l5, l6, l7, l8, l9, l10, l11] [vR (some a0), vI x1] h Q ↔ Rn r 286 137 [l0, l1, l2, l3, l4, l5, l6, l7, l8, l9, l10, l11] [vR (some a0), vI x1] h Q := Rn_nx pg286 rfl (if_pos hk)
theorem sX20_judge_137 : Rn r 286 137 [l0, l1, l2, l3, l4, some (vR z), l6, l7, l8, l9, l10, l11] [vR z0, vI x1] h Q ↔ Rn r 286 139 [l0, l1, l2, l3, l4, some (vR z), l6, l7, l8, l9, l10, l11] [vR z, vR z0, vI x1] h Q := Rn_nx pg286 rfl rfl
theorem sX20_judge_139 (hk : hK h a1 = 7) : Rn r 286 139 [l0, l1, l2, l3, l4, l5, l6, l7, l8, l9, l10, l11] [vR z0, vR (some a1), vI x2] h Q ↔ Cl r 47 [vR (some a1), vR z0] h (Kt r 286 142 [l0, l1, l2, l3, l4, l5, l6, l7, l8, l9, l10, l11] [vI x2] Q) := Rn_call pg286 rfl (by simp only [am_exec, am_inv, am_pop, am_lk, hk]; rfl) pg47 rfl rfl rfl
theorem sX20_judge_142 : Rn r 286 142 [l0, l1, l2, l3, l4, l5, l6, l7, l8, l9, l10, l11] [vI x0, vI x1] h Q ↔ if x0 ≠ 0 then Rn r 286 165 [l0, l1, l2, l3, l4, l5, l6, l7, l8, l9, l10, l11] [vI x1] h Q else Rn r 286 145 [l0, l1, l2, l3, l4, l5, l6, l7, l8, l9, l10, l11] [vI x1] h Q := Rn_if pg286 rfl rfl rfl
theorem sX20_judge_145 : Rn r 286 145 [l0, l1, l2, l3, l4, some (vR z), l6, l7, l8, l9, l10, l11] [vI x0] h Q ↔ Rn r 286 147 [l0, l1, l2, l3, l4, some (vR z), l6, l7, l8, l9, l10, l11] [vR z, vI x0] h Q := Rn_nx pg286 rfl rfl
theorem sX20_judge_147 : Rn r 286 147 [l0, some (vR z), l2, l3, l4, l5, l6, l7, l8, l9, l10, l11] [vR z0, vI x1] h Q ↔ Rn r 286 148 [l0, some (vR z), l2, l3, l4, l5, l6, l7, l8, l9, l10, l11] [vR z, vR z0, vI x1] h Q := Rn_nx pg286 rfl rfl
theorem sX20_judge_148 (hk : hK h a0 = 5) : Rn r 286 148 [l0, l1, l2, l3, l4, l5, l6, l7, l8, l9, l10, l11] [vR (some a0), vR z1, vI x2] h Q ↔ Rn r 286 151 [l0, l1, l2, l3, l4, l5, l6, l7, l8, l9, l10, l11] [vR (hR h a0 0), vR z1, vI x2] h Q := Rn_nx pg286 rfl (if_pos ⟨(hk ▸ Nat.le_refl _), (hk ▸ Nat.le_refl _)⟩)
theorem sX20_judge_151 : Rn r 286 151 [l0, l1, l2, l3, l4, l5, l6, l7, l8, some (vI x), l10, l11] [vR z0, vR z1, vI x2] h Q ↔ Rn r 286 153 [l0, l1, l2, l3, l4, l5, l6, l7, l8, some (vI x), l10, l11] [vI x, vR z0, vR z1, vI x2] h Q := Rn_nx pg286 rfl rfl
theorem sX20_judge_153 (hk : hK h a1 = 4) : Rn r 286 153 [l0, l1, l2, l3, l4, l5, l6, l7, l8, l9, l10, l11] [vI x0, vR (some a1), vR z2, vI x3] h Q ↔ Cl r 43 [vR (some a1), vI x0] h (Kt r 286 156 [l0, l1, l2, l3, l4, l5, l6, l7, l8, l9, l10, l11] [vR z2, vI x3] Q) := Rn_call pg286 rfl (by simp only [am_exec, am_inv, am_pop, am_lk, hk]; rfl) pg43 rfl rfl rfl
theorem sX20_judge_156_n : Rn r 286 156 [l0, l1, l2, l3, l4, l5, l6, l7, l8, l9, l10, l11] [vR none, vR z1, vI x2] h Q ↔ Rn r 286 159 [l0, l1, l2, l3, l4, l5, l6, l7, l8, l9, l10, l11] [vR none, vR z1, vI x2] h Q := Rn_nx pg286 rfl rfl
theorem sX20_judge_156 (hk : hK h a0 ∈ [7]) : Rn r 286 156 [l0, l1, l2, l3, l4, l5, l6, l7, l8, l9, l10, l11] [vR (some a0), vR z1, vI x2] h Q ↔ Rn r 286 159 [l0, l1, l2, l3, l4, l5, l6, l7, l8, l9, l10, l11] [vR (some a0), vR z1, vI x2] h Q := Rn_nx pg286 rfl (if_pos hk)
theorem sX20_judge_159 (hk : hK h a1 = 7) : Rn r 286 159 [l0, l1, l2, l3, l4, l5, l6, l7, l8, l9, l10, l11] [vR z0, vR (some a1), vI x2] h Q ↔ Cl r 47 [vR (some a1), vR z0] h (Kt r 286 162 [l0, l1, l2, l3, l4, l5, l6, l7, l8, l9, l10, l11] [vI x2] Q) := Rn_call pg286 rfl (by simp only [am_exec, am_inv, am_pop, am_lk, hk]; rfl) pg47 rfl rfl rfl
theorem sX20_judge_162 : Rn r 286 162 [l0, l1, l2, l3, l4, l5, l6, l7, l8, l9, l10, l11] [vI x0, vI x1] h Q ↔ if x0 = 0 then Rn r 286 169 [l0, l1, l2, l3, l4, l5, l6, l7, l8, l9, l10, l11] [vI x1] h Q else Rn r 286 165 [l0, l1, l2, l3, l4, l5, l6, l7, l8, l9, l10, l11] [vI x1] h Q := Rn_if pg286 rfl rfl rfl
theorem sX20_judge_165 : Rn r 286 165 [l0, l1, l2, l3, l4, l5, l6, l7, l8, l9, l10, l11] [vI x0] h Q ↔ Rn r 286 166 [l0, l1, l2, l3, l4, l5, l6, l7, l8, l9, l10, l11] [vI 1, vI x0] h Q := Rn_nx pg286 rfl rfl
theorem sX20_judge_166 : Rn r 286 166 [l0, l1, l2, l3, l4, l5, l6, l7, l8, l9, l10, l11] [vI x0, vI x1] h Q ↔ Rn r 286 170 [l0, l1, l2, l3, l4, l5, l6, l7, l8, l9, l10, l11] [vI x0, vI x1] h Q := Rn_nx pg286 rfl rfl
theorem sX20_judge_169 : Rn r 286 169 [l0, l1, l2, l3, l4, l5, l6, l7, l8, l9, l10, l11] [vI x0] h Q ↔ Rn r 286 170 [l0, l1, l2, l3, l4, l5, l6, l7, l8, l9, l10, l11] [vI 0, vI x0] h Q := Rn_nx pg286 rfl rfl
theorem sX20_judge_170 : Rn r 286 170 [l0, l1, l2, l3, l4, l5, l6, l7, l8, l9, l10, l11] [vI x0, vI x1] h Q ↔ Rn r 286 171 [l0, l1, l2, l3, l4, l5, l6, l7, l8, l9, l10, l11] [vI (x1 ||| x0)] h Q := Rn_nx pg286 rfl rfl
theorem sX20_judge_171 : Rn r 286 171 [l0, l1, l2, l3, l4, l5, l6, l7, l8, l9, l10, l11] [vI x0] h Q ↔ Rn r 286 173 [l0, l1, l2, l3, l4, l5, l6, some (vI x0), l8, l9, l10, l11] [] h Q := Rn_nx pg286 rfl rfl
theorem sX20_judge_173 : Rn r 286 173 [l0, l1, l2, l3, l4, l5, l6, l7, l8, some (vI x), l10, l11] [] h Q ↔ Rn r 286 176 [l0, l1, l2, l3, l4, l5, l6, l7, l8, some (vI (x + 1)), l10, l11] [] h Q := Rn_nx pg286 rfl rfl
theorem sX20_judge_176 : Rn r 286 176 [l0, l1, l2, l3, l4, l5, l6, l7, l8, l9, l10, l11] [] h Q ↔ Rn r 286 100 [l0, l1, l2, l3, l4, l5, l6, l7, l8, l9, l10, l11] [] h Q := Rn_nx pg286 rfl rfl
theorem sX20_judge_179 : Rn r 286 179 [l0, l1, l2, l3, l4, l5, l6, some (vI x), l8, l9, l10, l11] [] h Q ↔ Rn r 286 181 [l0, l1, l2, l3, l4, l5, l6, some (vI x), l8, l9, l10, l11] [vI x] h Q := Rn_nx pg286 rfl rfl
theorem sX20_judge_181 : Rn r 286 181 [l0, l1, l2, l3, l4, l5, l6, l7, l8, l9, l10, l11] [vI x0] h Q ↔ if x0 ≠ 0 then Rn r 286 196 [l0, l1, l2, l3, l4, l5, l6, l7, l8, l9, l10, l11] [] h Q else Rn r 286 184 [l0, l1, l2, l3, l4, l5, l6, l7, l8, l9, l10, l11] [] h Q := Rn_if pg286 rfl rfl rfl
theorem sX20_judge_184 : Rn r 286 184 [l0, some (vR z), l2, l3, l4, l5, l6, l7, l8, l9, l10, l11] [] h Q ↔ Rn r 286 185 [l0, some (vR z), l2, l3, l4, l5, l6, l7, l8, l9, l10, l11] [vR z] h Q := Rn_nx pg286 rfl rfl
theorem sX20_judge_185 : Rn r 286 185 [l0, l1, l2, l3, l4, l5, l6, l7, l8, l9, l10, l11] [vR z0] h Q ↔ Rn r 286 186 [l0, l1, l2, l3, l4, l5, l6, l7, l8, l9, l10, l11] [vI 3, vR z0] h Q := Rn_nx pg286 rfl rfl
theorem sX20_judge_186 : Rn r 286 186 [l0, l1, l2, l3, l4, l5, some (vI x), l7, l8, l9, l10, l11] [vI x0, vR z1] h Q ↔ Rn r 286 188 [l0, l1, l2, l3, l4, l5, some (vI x), l7, l8, l9, l10, l11] [vI x, vI x0, vR z1] h Q := Rn_nx pg286 rfl rfl
theorem sX20_judge_188 : Rn r 286 188 [l0, l1, l2, l3, l4, some (vR z), l6, l7, l8, l9, l10, l11] [vI x0, vI x1, vR z2] h Q ↔ Rn r 286 190 [l0, l1, l2, l3, l4, some (vR z), l6, l7, l8, l9, l10, l11] [vR z, vI x0, vI x1, vR z2] h Q := Rn_nx pg286 rfl rfl
theorem sX20_judge_190 (hk : hK h a0 = 7) : Rn r 286 190 [l0, l1, l2, l3, l4, l5, l6, l7, l8, l9, l10, l11] [vR (some a0), vI x1, vI x2, vR z3] h Q ↔ Rn r 286 193 [l0, l1, l2, l3, l4, l5, l6, l7, l8, l9, l10, l11] [vI (hI h a0 1), vI x1, vI x2, vR z3] h Q := Rn_nx pg286 rfl (if_pos ⟨(hk ▸ Nat.le_refl _), (hk ▸ Nat.le_refl _)⟩)
theorem sX20_judge_193 (hk : hK h a3 = 5) : Rn r 286 193 [l0, l1, l2, l3, l4, l5, l6, l7, l8, l9, l10, l11] [vI x0, vI x1, vI x2, vR (some a3)] h Q ↔ Cl r 130 [vR (some a3), vI x2, vI x1, vI x0] h (Kt r 286 196 [l0, l1, l2, l3, l4, l5, l6, l7, l8, l9, l10, l11] [] Q) := Rn_call pg286 rfl (by simp only [am_exec, am_inv, am_pop, am_lk, hk]; rfl) pg130 rfl rfl rfl
theorem sX20_judge_196 : Rn r 286 196 [l0, some (vR z), l2, l3, l4, l5, l6, l7, l8, l9, l10, l11] [] h Q ↔ Rn r 286 197 [l0, some (vR z), l2, l3, l4, l5, l6, l7, l8, l9, l10, l11] [vR z] h Q := Rn_nx pg286 rfl rfl
theorem sX20_judge_197 : Rn r 286 197 [l0, l1, l2, l3, l4, some (vR z), l6, l7, l8, l9, l10, l11] [vR z0] h Q ↔ Rn r 286 199 [l0, l1, l2, l3, l4, some (vR z), l6, l7, l8, l9, l10, l11] [vR z, vR z0] h Q := Rn_nx pg286 rfl rfl
theorem sX20_judge_199 : Rn r 286 199 [l0, l1, l2, some (vI x), l4, l5, l6, l7, l8, l9, l10, l11] [vR z0, vR z1] h Q ↔ Rn r 286 200 [l0, l1, l2, some (vI x), l4, l5, l6, l7, l8, l9, l10, l11] [vI x, vR z0, vR z1] h Q := Rn_nx pg286 rfl rfl
theorem sX20_judge_200 (hk : hK h a2 = 5) : Rn r 286 200 [l0, l1, l2, l3, l4, l5, l6, l7, l8, l9, l10, l11] [vI x0, vR z1, vR (some a2)] h Q ↔ Cl r 139 [vR (some a2), vR z1, vI x0] h (Kt r 286 203 [l0, l1, l2, l3, l4, l5, l6, l7, l8, l9, l10, l11] [] Q) := Rn_call pg286 rfl (by simp only [am_exec, am_inv, am_pop, am_lk, hk]; rfl) pg139 rfl rfl rfl
theorem sX20_judge_203 : Rn r 286 203 [l0, l1, l2, l3, l4, l5, l6, l7, l8, l9, l10, l11] [vI x0] h Q ↔ if x0 = 0 then Rn r 286 218 [l0, l1, l2, l3, l4, l5, l6, l7, l8, l9, l10, l11] [] h Q else Rn r 286 206 [l0, l1, l2, l3, l4, l5, l6, l7, l8, l9, l10, l11] [] h Q := Rn_if pg286 rfl rfl rfl
theorem sX20_judge_206 : Rn r 286 206 [l0, some (vR z), l2, l3, l4, l5, l6, l7, l8, l9, l10, l11] [] h Q ↔ Rn r 286 207 [l0, some (vR z), l2, l3, l4, l5, l6, l7, l8, l9, l10, l11] [vR z] h Q := Rn_nx pg286 rfl rfl
theorem sX20_judge_207 : Rn r 286 207 [l0, l1, l2, l3, l4, l5, l6, l7, l8, l9, l10, l11] [vR z0] h Q ↔ Rn r 286 208 [l0, l1, l2, l3, l4, l5, l6, l7, l8, l9, l10, l11] [vI 4, vR z0] h Q := Rn_nx pg286 rfl rfl
theorem sX20_judge_208 : Rn r 286 208 [l0, l1, l2, l3, l4, l5, some (vI x), l7, l8, l9, l10, l11] [vI x0, vR z1] h Q ↔ Rn r 286 210 [l0, l1, l2, l3, l4, l5, some (vI x), l7, l8, l9, l10, l11] [vI x, vI x0, vR z1] h Q := Rn_nx pg286 rfl rfl
theorem sX20_judge_210 : Rn r 286 210 [l0, l1, l2, l3, l4, some (vR z), l6, l7, l8, l9, l10, l11] [vI x0, vI x1, vR z2] h Q ↔ Rn r 286 212 [l0, l1, l2, l3, l4, some (vR z), l6, l7, l8, l9, l10, l11] [vR z, vI x0, vI x1, vR z2] h Q := Rn_nx pg286 rfl rfl
theorem sX20_judge_212 (hk : hK h a0 = 7) : Rn r 286 212 [l0, l1, l2, l3, l4, l5, l6, l7, l8, l9, l10, l11] [vR (some a0), vI x1, vI x2, vR z3] h Q ↔ Rn r 286 215 [l0, l1, l2, l3, l4, l5, l6, l7, l8, l9, l10, l11] [vI (hI h a0 1), vI x1, vI x2, vR z3] h Q := Rn_nx pg286 rfl (if_pos ⟨(hk ▸ Nat.le_refl _), (hk ▸ Nat.le_refl _)⟩)
theorem sX20_judge_215 (hk : hK h a3 = 5) : Rn r 286 215 [l0, l1, l2, l3, l4, l5, l6, l7, l8, l9, l10, l11] [vI x0, vI x1, vI x2, vR (some a3)] h Q ↔ Cl r 130 [vR (some a3), vI x2, vI x1, vI x0] h (Kt r 286 218 [l0, l1, l2, l3, l4, l5, l6, l7, l8, l9, l10, l11] [] Q) := Rn_call pg286 rfl (by simp only [am_exec, am_inv, am_pop, am_lk, hk]; rfl) pg130 rfl rfl rfl
theorem sX20_judge_218 : Rn r 286 218 [l0, l1, l2, l3, l4, l5, l6, l7, l8, l9, l10, l11] [] h Q ↔ Rn r 286 219 [l0, l1, l2, l3, l4, l5, l6, l7, l8, l9, l10, l11] [vI 0] h Q := Rn_nx pg286 rfl rfl
theorem sX20_judge_219 : Rn r 286 219 [l0, l1, l2, l3, l4, l5, l6, l7, l8, l9, l10, l11] [vI x0] h Q ↔ Rn r 286 221 [l0, l1, l2, l3, l4, l5, l6, l7, l8, some (vI x0), l10, l11] [] h Q := Rn_nx pg286 rfl rfl
theorem sX20_judge_221 : Rn r 286 221 [l0, l1, l2, l3, l4, l5, l6, l7, l8, l9, l10, l11] [] h Q ↔ Rn r 286 222 [l0, l1, l2, l3, l4, l5, l6, l7, l8, l9, l10, l11] [vI 0] h Q := Rn_nx pg286 rfl rfl
theorem sX20_judge_222 : Rn r 286 222 [l0, l1, l2, l3, l4, l5, l6, l7, l8, l9, l10, l11] [vI x0] h Q ↔ Rn r 286 224 [l0, l1, l2, l3, l4, l5, l6, l7, l8, l9, some (vI x0), l11] [] h Q := Rn_nx pg286 rfl rfl
theorem sX20_judge_224 : Rn r 286 224 [l0, l1, l2, l3, l4, l5, l6, l7, l8, l9, some (vI x), l11] [] h Q ↔ Rn r 286 226 [l0, l1, l2, l3, l4, l5, l6, l7, l8, l9, some (vI x), l11] [vI x] h Q := Rn_nx pg286 rfl rfl
theorem sX20_judge_226 : Rn r 286 226 [l0, l1, l2, l3, some (vI x), l5, l6, l7, l8, l9, l10, l11] [vI x0] h Q ↔ Rn r 286 228 [l0, l1, l2, l3, some (vI x), l5, l6, l7, l8, l9, l10, l11] [vI x, vI x0] h Q := Rn_nx pg286 rfl rfl
theorem sX20_judge_228 : Rn r 286 228 [l0, l1, l2, l3, l4, l5, l6, l7, l8, l9, l10, l11] [vI x0, vI x1] h Q ↔ if x0 ≤ x1 then Rn r 286 289 [l0, l1, l2, l3, l4, l5, l6, l7, l8, l9, l10, l11] [] h Q else Rn r 286 231 [l0, l1, l2, l3, l4, l5, l6, l7, l8, l9, l10, l11] [] h Q := Rn_if pg286 rfl rfl rfl
theorem sX20_judge_231 : Rn r 286 231 [l0, l1, some (vR z), l3, l4, l5, l6, l7, l8, l9, l10, l11] [] h Q ↔ Rn r 286 232 [l0, l1, some (vR z), l3, l4, l5, l6, l7, l8, l9, l10, l11] [vR z] h Q := Rn_nx pg286 rfl rfl
theorem sX20_judge_232 (hk : hK h a0 = 22) : Rn r 286 232 [l0, l1, l2, l3, l4, l5, l6, l7, l8, l9, l10, l11] [vR (some a0)] h Q ↔ Rn r 286 235 [l0, l1, l2, l3, l4, l5, l6, l7, l8, l9, l10, l11] [vR (hR h a0 1)] h Q := Rn_nx pg286 rfl (if_pos ⟨(hk ▸ Nat.le_refl _), (hk ▸ Nat.le_refl _)⟩)
theorem sX20_judge_235 : Rn r 286 235 [l0, l1, l2, l3, l4, l5, l6, l7, l8, l9, some (vI x), l11] [vR z0] h Q ↔ Rn r 286 237 [l0, l1, l2, l3, l4, l5, l6, l7, l8, l9, some (vI x), l11] [vI x, vR z0] h Q := Rn_nx pg286 rfl rfl
theorem sX20_judge_237 (hk : hK h a1 = 4) : Rn r 286 237 [l0, l1, l2, l3, l4, l5, l6, l7, l8, l9, l10, l11] [vI x0, vR (some a1)] h Q ↔ Cl r 43 [vR (some a1), vI x0] h (Kt r 286 240 [l0, l1, l2, l3, l4, l5, l6, l7, l8, l9, l10, l11] [] Q) := Rn_call pg286 rfl (by simp only [am_exec, am_inv, am_pop, am_lk, hk]; rfl) pg43 rfl rfl rfl
theorem sX20_judge_240_n : Rn r 286 240 [l0, l1, l2, l3, l4, l5, l6, l7, l8, l9, l10, l11] [vR none] h Q ↔ Rn r 286 243 [l0, l1, l2, l3, l4, l5, l6, l7, l8, l9, l10, l11] [vR none] h Q := Rn_nx pg286 rfl rfl
theorem sX20_judge_240 (hk : hK h a0 ∈ [19]) : Rn r 286 240 [l0, l1, l2, l3, l4, l5, l6, l7, l8, l9, l10, l11] [vR (some a0)] h Q ↔ Rn r 286 243 [l0, l1, l2, l3, l4, l5, l6, l7, l8, l9, l10, l11] [vR (some a0)] h Q := Rn_nx pg286 rfl (if_pos hk)
theorem sX20_judge_243 (hk : hK h a0 = 19) : Rn r 286 243 [l0, l1, l2, l3, l4, l5, l6, l7, l8, l9, l10, l11] [vR (some a0)] h Q ↔ Rn r 286 246 [l0, l1, l2, l3, l4, l5, l6, l7, l8, l9, l10, l11] [vR (hR h a0 0)] h Q := Rn_nx pg286 rfl (if_pos ⟨(hk ▸ Nat.le_refl _), (hk ▸ Nat.le_refl _)⟩)
theorem sX20_judge_246 : Rn r 286 246 [l0, l1, l2, l3, l4, l5, l6, l7, l8, l9, l10, l11] [vR z0] h Q ↔ Rn r 286 248 [l0, l1, l2, l3, l4, l5, l6, l7, l8, l9, l10, some (vR z0)] [] h Q := Rn_nx pg286 rfl rfl
theorem sX20_judge_248 : Rn r 286 248 [l0, l1, l2, l3, l4, l5, l6, l7, l8, some (vI x), l10, l11] [] h Q ↔ Rn r 286 250 [l0, l1, l2, l3, l4, l5, l6, l7, l8, some (vI x), l10, l11] [vI x] h Q := Rn_nx pg286 rfl rfl
theorem sX20_judge_250 : Rn r 286 250 [l0, l1, l2, l3, l4, l5, l6, l7, l8, l9, l10, some (vR z)] [vI x0] h Q ↔ Rn r 286 252 [l0, l1, l2, l3, l4, l5, l6, l7, l8, l9, l10, some (vR z)] [vR z, vI x0] h Q := Rn_nx pg286 rfl rfl
theorem sX20_judge_252 : Rn r 286 252 [l0, l1, l2, l3, l4, l5, l6, l7, l8, l9, l10, l11] [vR z0, vI x1] h Q ↔ if z0 = none then Rn r 286 279 [l0, l1, l2, l3, l4, l5, l6, l7, l8, l9, l10, l11] [vI x1] h Q else Rn r 286 255 [l0, l1, l2, l3, l4, l5, l6, l7, l8, l9, l10, l11] [vI x1] h Q := Rn_if pg286 rfl rfl rfl
theorem sX20_judge_255 : Rn r 286 255 [l0, l1, l2, l3, l4, some (vR z), l6, l7, l8, l9, l10, l11] [vI x0] h Q ↔ Rn r 286 257 [l0, l1, l2, l3, l4, some (vR z), l6, l7, l8, l9, l10, l11] [vR z, vI x0] h Q := Rn_nx pg286 rfl rfl
theorem sX20_judge_257 : Rn r 286 257 [l0, l1, l2, l3, l4, l5, l6, l7, l8, l9, l10, some (vR z)] [vR z0, vI x1] h Q ↔ Rn r 286 259 [l0, l1, l2, l3, l4, l5, l6, l7, l8, l9, l10, some (vR z)] [vR z, vR z0, vI x1] h Q := Rn_nx pg286 rfl rfl
theorem sX20_judge_259 (hk : hK h a1 = 7) : Rn r 286 259 [l0, l1, l2, l3, l4, l5, l6, l7, l8, l9, l10, l11] [vR z0, vR (some a1), vI x2] h Q ↔ Cl r 47 [vR (some a1), vR z0] h (Kt r 286 262 [l0, l1, l2, l3, l4, l5, l6, l7, l8, l9, l10, l11] [vI x2] Q) := Rn_call pg286 rfl (by simp only [am_exec, am_inv, am_pop, am_lk, hk]; rfl) pg47 rfl rfl rfl
theorem sX20_judge_262 : Rn r 286 262 [l0, l1, l2, l3, l4, l5, l6, l7, l8, l9, l10, l11] [vI x0, vI x1] h Q ↔ if x0 ≠ 0 then Rn r 286 275 [l0, l1, l2, l3, l4, l5, l6, l7, l8, l9, l10, l11] [vI x1] h Q else Rn r 286 265 [l0, l1, l2, l3, l4, l5, l6, l7, l8, l9, l10, l11] [vI x1] h Q := Rn_if pg286 rfl rfl rfl
theorem sX20_judge_265 : Rn r 286 265 [l0, l1, l2, l3, l4, l5, l6, l7, l8, l9, l10, some (vR z)] [vI x0] h Q ↔ Rn r 286 267 [l0, l1, l2, l3, l4, l5, l6, l7, l8, l9, l10, some (vR z)] [vR z, vI x0] h Q := Rn_nx pg286 rfl rfl
theorem sX20_judge_267 : Rn r 286 267 [l0, l1, l2, l3, l4, some (vR z), l6, l7, l8, l9, l10, l11] [vR z0, vI x1] h Q ↔ Rn r 286 269 [l0, l1, l2, l3, l4, some (vR z), l6, l7, l8, l9, l10, l11] [vR z, vR z0, vI x1] h Q := Rn_nx pg286 rfl rfl
theorem sX20_judge_269 (hk : hK h a1 = 7) : Rn r 286 269 [l0, l1, l2, l3, l4, l5, l6, l7, l8, l9, l10, l11] [vR z0, vR (some a1), vI x2] h Q ↔ Cl r 47 [vR (some a1), vR z0] h (Kt r 286 272 [l0, l1, l2, l3, l4, l5, l6, l7, l8, l9, l10, l11] [vI x2] Q) := Rn_call pg286 rfl (by simp only [am_exec, am_inv, am_pop, am_lk, hk]; rfl) pg47 rfl rfl rfl
theorem sX20_judge_272 : Rn r 286 272 [l0, l1, l2, l3, l4, l5, l6, l7, l8, l9, l10, l11] [vI x0, vI x1] h Q ↔ if x0 = 0 then Rn r 286 279 [l0, l1, l2, l3, l4, l5, l6, l7, l8, l9, l10, l11] [vI x1] h Q else Rn r 286 275 [l0, l1, l2, l3, l4, l5, l6, l7, l8, l9, l10, l11] [vI x1] h Q := Rn_if pg286 rfl rfl rfl
theorem sX20_judge_275 : Rn r 286 275 [l0, l1, l2, l3, l4, l5, l6, l7, l8, l9, l10, l11] [vI x0] h Q ↔ Rn r 286 276 [l0, l1, l2, l3, l4, l5, l6, l7, l8, l9, l10, l11] [vI 1, vI x0] h Q := Rn_nx pg286 rfl rfl
theorem sX20_judge_276 : Rn r 286 276 [l0, l1, l2, l3, l4, l5, l6, l7, l8, l9, l10, l11] [vI x0, vI x1] h Q ↔ Rn r 286 280 [l0, l1, l2, l3, l4, l5, l6, l7, l8, l9, l10, l11] [vI x0, vI x1] h Q := Rn_nx pg286 rfl rfl
theorem sX20_judge_279 : Rn r 286 279 [l0, l1, l2, l3, l4, l5, l6, l7, l8, l9, l10, l11] [vI x0] h Q ↔ Rn r 286 280 [l0, l1, l2, l3, l4, l5, l6, l7, l8, l9, l10, l11] [vI 0, vI x0] h Q := Rn_nx pg286 rfl rfl
theorem sX20_judge_280 : Rn r 286 280 [l0, l1, l2, l3, l4, l5, l6, l7, l8, l9, l10, l11] [vI x0, vI x1] h Q ↔ Rn r 286 281 [l0, l1, l2, l3, l4, l5, l6, l7, l8, l9, l10, l11] [vI (x1 ||| x0)] h Q := Rn_nx pg286 rfl rfl
theorem sX20_judge_281 : Rn r 286 281 [l0, l1, l2, l3, l4, l5, l6, l7, l8, l9, l10, l11] [vI x0] h Q ↔ Rn r 286 283 [l0, l1, l2, l3, l4, l5, l6, l7, l8, some (vI x0), l10, l11] [] h Q := Rn_nx pg286 rfl rfl
theorem sX20_judge_283 : Rn r 286 283 [l0, l1, l2, l3, l4, l5, l6, l7, l8, l9, some (vI x), l11] [] h Q ↔ Rn r 286 286 [l0, l1, l2, l3, l4, l5, l6, l7, l8, l9, some (vI (x + 1)), l11] [] h Q := Rn_nx pg286 rfl rfl
theorem sX20_judge_286 : Rn r 286 286 [l0, l1, l2, l3, l4, l5, l6, l7, l8, l9, l10, l11] [] h Q ↔ Rn r 286 224 [l0, l1, l2, l3, l4, l5, l6, l7, l8, l9, l10, l11] [] h Q := Rn_nx pg286 rfl rfl
theorem sX20_judge_289 : Rn r 286 289 [l0, l1, l2, l3, l4, l5, l6, l7, l8, some (vI x), l10, l11] [] h Q ↔ Rn r 286 291 [l0, l1, l2, l3, l4, l5, l6, l7, l8, some (vI x), l10, l11] [vI x] h Q := Rn_nx pg286 rfl rfl
theorem sX20_judge_291 : Rn r 286 291 [l0, l1, l2, l3, l4, l5, l6, l7, l8, l9, l10, l11] [vI x0] h Q ↔ if x0 = 0 then Rn r 286 306 [l0, l1, l2, l3, l4, l5, l6, l7, l8, l9, l10, l11] [] h Q else Rn r 286 294 [l0, l1, l2, l3, l4, l5, l6, l7, l8, l9, l10, l11] [] h Q := Rn_if pg286 rfl rfl rfl
theorem sX20_judge_294 : Rn r 286 294 [l0, some (vR z), l2, l3, l4, l5, l6, l7, l8, l9, l10, l11] [] h Q ↔ Rn r 286 295 [l0, some (vR z), l2, l3, l4, l5, l6, l7, l8, l9, l10, l11] [vR z] h Q := Rn_nx pg286 rfl rfl
theorem sX20_judge_295 : Rn r 286 295 [l0, l1, l2, l3, l4, l5, l6, l7, l8, l9, l10, l11] [vR z0] h Q ↔ Rn r 286 296 [l0, l1, l2, l3, l4, l5, l6, l7, l8, l9, l10, l11] [vI 5, vR z0] h Q := Rn_nx pg286 rfl rfl
theorem sX20_judge_296 : Rn r 286 296 [l0, l1, l2, l3, l4, l5, some (vI x), l7, l8, l9, l10, l11] [vI x0, vR z1] h Q ↔ Rn r 286 298 [l0, l1, l2, l3, l4, l5, some (vI x), l7, l8, l9, l10, l11] [vI x, vI x0, vR z1] h Q := Rn_nx pg286 rfl rfl
theorem sX20_judge_298 : Rn r 286 298 [l0, l1, l2, l3, l4, some (vR z), l6, l7, l8, l9, l10, l11] [vI x0, vI x1, vR z2] h Q ↔ Rn r 286 300 [l0, l1, l2, l3, l4, some (vR z), l6, l7, l8, l9, l10, l11] [vR z, vI x0, vI x1, vR z2] h Q := Rn_nx pg286 rfl rfl
theorem sX20_judge_300 (hk : hK h a0 = 7) : Rn r 286 300 [l0, l1, l2, l3, l4, l5, l6, l7, l8, l9, l10, l11] [vR (some a0), vI x1, vI x2, vR z3] h Q ↔ Rn r 286 303 [l0, l1, l2, l3, l4, l5, l6, l7, l8, l9, l10, l11] [vI (hI h a0 1), vI x1, vI x2, vR z3] h Q := Rn_nx pg286 rfl (if_pos ⟨(hk ▸ Nat.le_refl _), (hk ▸ Nat.le_refl _)⟩)
theorem sX20_judge_303 (hk : hK h a3 = 5) : Rn r 286 303 [l0, l1, l2, l3, l4, l5, l6, l7, l8, l9, l10, l11] [vI x0, vI x1, vI x2, vR (some a3)] h Q ↔ Cl r 130 [vR (some a3), vI x2, vI x1, vI x0] h (Kt r 286 306 [l0, l1, l2, l3, l4, l5, l6, l7, l8, l9, l10, l11] [] Q) := Rn_call pg286 rfl (by simp only [am_exec, am_inv, am_pop, am_lk, hk]; rfl) pg130 rfl rfl rfl
theorem sX20_judge_306 : Rn r 286 306 [l0, l1, l2, l3, some (vI x), l5, l6, l7, l8, l9, l10, l11] [] h Q ↔ Rn r 286 309 [l0, l1, l2, l3, some (vI (x + 1)), l5, l6, l7, l8, l9, l10, l11] [] h Q := Rn_nx pg286 rfl rfl
theorem sX20_judge_309 : Rn r 286 309 [l0, l1, l2, l3, l4, l5, l6, l7, l8, l9, l10, l11] [] h Q ↔ Rn r 286 3 [l0, l1, l2, l3, l4, l5, l6, l7, l8, l9, l10, l11] [] h Q := Rn_nx pg286 rfl rfl
theorem sX20_judge_312 : Rn r 286 312 [l0, l1, l2, l3, l4, l5, l6, l7, l8, l9, l10, l11] [] h Q ↔ Q (Sum.inl none) h := Rn_end pg286 rfl rfl
/-! 287 ThrowRules$Break.isHeld()Z -/
theorem eX19_isHeld : Cl r 287 [vR z0] h Q ↔ Rn r 287 0 [some (vR z0), none, none, none] [] h Q := Cl_in pg287 rfl
theorem sX19_isHeld_0 : Rn r 287 0 [l0, l1, l2, l3] [] h Q ↔ Rn r 287 1 [l0, l1, l2, l3] [vI 0] h Q := Rn_nx pg287 rfl rfl
theorem sX19_isHeld_1 : Rn r 287 1 [l0, l1, l2, l3] [vI x0] h Q ↔ Rn r 287 2 [l0, some (vI x0), l2, l3] [] h Q := Rn_nx pg287 rfl rfl
theorem sX19_isHeld_2 : Rn r 287 2 [l0, l1, l2, l3] [] h Q ↔ Rn r 287 3 [l0, l1, l2, l3] [vI 0] h Q := Rn_nx pg287 rfl rfl
theorem sX19_isHeld_3 : Rn r 287 3 [l0, l1, l2, l3] [vI x0] h Q ↔ Rn r 287 4 [l0, l1, some (vI x0), l3] [] h Q := Rn_nx pg287 rfl rfl
theorem sX19_isHeld_4 : Rn r 287 4 [l0, l1, some (vI x), l3] [] h Q ↔ Rn r 287 5 [l0, l1, some (vI x), l3] [vI x] h Q := Rn_nx pg287 rfl rfl
theorem sX19_isHeld_5 : Rn r 287 5 [some (vR z), l1, l2, l3] [vI x0] h Q ↔ Rn r 287 6 [some (vR z), l1, l2, l3] [vR z, vI x0] h Q := Rn_nx pg287 rfl rfl
theorem sX19_isHeld_6 (hk : hK h a0 = 35) : Rn r 287 6 [l0, l1, l2, l3] [vR (some a0), vI x1] h Q ↔ Rn r 287 9 [l0, l1, l2, l3] [vR (hR h a0 6), vI x1] h Q := Rn_nx pg287 rfl (if_pos ⟨(hk ▸ Nat.le_refl _), (hk ▸ Nat.le_refl _)⟩)
theorem sX19_isHeld_9 (hk : hK h a0 = 4) : Rn r 287 9 [l0, l1, l2, l3] [vR (some a0), vI x1] h Q ↔ Cl r 34 [vR (some a0)] h (Kt r 287 12 [l0, l1, l2, l3] [vI x1] Q) := Rn_call pg287 rfl (by simp only [am_exec, am_inv, am_pop, am_lk, hk]; rfl) pg34 rfl rfl rfl
theorem sX19_isHeld_12 : Rn r 287 12 [l0, l1, l2, l3] [vI x0, vI x1] h Q ↔ if x0 ≤ x1 then Rn r 287 55 [l0, l1, l2, l3] [] h Q else Rn r 287 15 [l0, l1, l2, l3] [] h Q := Rn_if pg287 rfl rfl rfl
theorem sX19_isHeld_15 : Rn r 287 15 [some (vR z), l1, l2, l3] [] h Q ↔ Rn r 287 16 [some (vR z), l1, l2, l3] [vR z] h Q := Rn_nx pg287 rfl rfl
theorem sX19_isHeld_16 (hk : hK h a0 = 35) : Rn r 287 16 [l0, l1, l2, l3] [vR (some a0)] h Q ↔ Rn r 287 19 [l0, l1, l2, l3] [vR (hR h a0 6)] h Q := Rn_nx pg287 rfl (if_pos ⟨(hk ▸ Nat.le_refl _), (hk ▸ Nat.le_refl _)⟩)
theorem sX19_isHeld_19 : Rn r 287 19 [l0, l1, some (vI x), l3] [vR z0] h Q ↔ Rn r 287 20 [l0, l1, some (vI x), l3] [vI x, vR z0] h Q := Rn_nx pg287 rfl rfl
theorem sX19_isHeld_20 (hk : hK h a1 = 4) : Rn r 287 20 [l0, l1, l2, l3] [vI x0, vR (some a1)] h Q ↔ Cl r 43 [vR (some a1), vI x0] h (Kt r 287 23 [l0, l1, l2, l3] [] Q) := Rn_call pg287 rfl (by simp only [am_exec, am_inv, am_pop, am_lk, hk]; rfl) pg43 rfl rfl rfl
theorem sX19_isHeld_23_n : Rn r 287 23 [l0, l1, l2, l3] [vR none] h Q ↔ Rn r 287 26 [l0, l1, l2, l3] [vR none] h Q := Rn_nx pg287 rfl rfl
theorem sX19_isHeld_23 (hk : hK h a0 ∈ [36]) : Rn r 287 23 [l0, l1, l2, l3] [vR (some a0)] h Q ↔ Rn r 287 26 [l0, l1, l2, l3] [vR (some a0)] h Q := Rn_nx pg287 rfl (if_pos hk)
theorem sX19_isHeld_26 (hk : hK h a0 = 36) : Rn r 287 26 [l0, l1, l2, l3] [vR (some a0)] h Q ↔ Rn r 287 29 [l0, l1, l2, l3] [vR (hR h a0 10)] h Q := Rn_nx pg287 rfl (if_pos ⟨(hk ▸ Nat.le_refl _), (hk ▸ Nat.le_refl _)⟩)
theorem sX19_isHeld_29 : Rn r 287 29 [l0, l1, l2, l3] [vR z0] h Q ↔ Rn r 287 30 [l0, l1, l2, some (vR z0)] [] h Q := Rn_nx pg287 rfl rfl
theorem sX19_isHeld_30 : Rn r 287 30 [l0, some (vI x), l2, l3] [] h Q ↔ Rn r 287 31 [l0, some (vI x), l2, l3] [vI x] h Q := Rn_nx pg287 rfl rfl
theorem sX19_isHeld_31 : Rn r 287 31 [l0, l1, l2, some (vR z)] [vI x0] h Q ↔ Rn r 287 32 [l0, l1, l2, some (vR z)] [vR z, vI x0] h Q := Rn_nx pg287 rfl rfl
theorem sX19_isHeld_32 : Rn r 287 32 [l0, l1, l2, l3] [vR z0, vI x1] h Q ↔ if z0 = none then Rn r 287 46 [l0, l1, l2, l3] [vI x1] h Q else Rn r 287 35 [l0, l1, l2, l3] [vI x1] h Q := Rn_if pg287 rfl rfl rfl
theorem sX19_isHeld_35 : Rn r 287 35 [l0, l1, l2, some (vR z)] [vI x0] h Q ↔ Rn r 287 36 [l0, l1, l2, some (vR z)] [vR z, vI x0] h Q := Rn_nx pg287 rfl rfl
theorem sX19_isHeld_36 (hk : hK h a0 = 21) : Rn r 287 36 [l0, l1, l2, l3] [vR (some a0), vI x1] h Q ↔ Rn r 287 39 [l0, l1, l2, l3] [vI (hI h a0 3), vI x1] h Q := Rn_nx pg287 rfl (if_pos ⟨(hk ▸ Nat.le_refl _), (hk ▸ Nat.le_refl _)⟩)
theorem sX19_isHeld_39 : Rn r 287 39 [l0, l1, l2, l3] [vI x0, vI x1] h Q ↔ if x0 ≠ 0 then Rn r 287 46 [l0, l1, l2, l3] [vI x1] h Q else Rn r 287 42 [l0, l1, l2, l3] [vI x1] h Q := Rn_if pg287 rfl rfl rfl
theorem sX19_isHeld_42 : Rn r 287 42 [l0, l1, l2, l3] [vI x0] h Q ↔ Rn r 287 43 [l0, l1, l2, l3] [vI 1, vI x0] h Q := Rn_nx pg287 rfl rfl
theorem sX19_isHeld_43 : Rn r 287 43 [l0, l1, l2, l3] [vI x0, vI x1] h Q ↔ Rn r 287 47 [l0, l1, l2, l3] [vI x0, vI x1] h Q := Rn_nx pg287 rfl rfl
theorem sX19_isHeld_46 : Rn r 287 46 [l0, l1, l2, l3] [vI x0] h Q ↔ Rn r 287 47 [l0, l1, l2, l3] [vI 0, vI x0] h Q := Rn_nx pg287 rfl rfl
theorem sX19_isHeld_47 : Rn r 287 47 [l0, l1, l2, l3] [vI x0, vI x1] h Q ↔ Rn r 287 48 [l0, l1, l2, l3] [vI (x1 ||| x0)] h Q := Rn_nx pg287 rfl rfl
theorem sX19_isHeld_48 : Rn r 287 48 [l0, l1, l2, l3] [vI x0] h Q ↔ Rn r 287 49 [l0, some (vI x0), l2, l3] [] h Q := Rn_nx pg287 rfl rfl
theorem sX19_isHeld_49 : Rn r 287 49 [l0, l1, some (vI x), l3] [] h Q ↔ Rn r 287 52 [l0, l1, some (vI (x + 1)), l3] [] h Q := Rn_nx pg287 rfl rfl
theorem sX19_isHeld_52 : Rn r 287 52 [l0, l1, l2, l3] [] h Q ↔ Rn r 287 4 [l0, l1, l2, l3] [] h Q := Rn_nx pg287 rfl rfl
theorem sX19_isHeld_55 : Rn r 287 55 [l0, some (vI x), l2, l3] [] h Q ↔ Rn r 287 56 [l0, some (vI x), l2, l3] [vI x] h Q := Rn_nx pg287 rfl rfl
theorem sX19_isHeld_56 (hf : am_fit 4 x0 = true) : Rn r 287 56 [l0, l1, l2, l3] [vI x0] h Q ↔ Q (Sum.inl (some (vI x0))) h := Rn_end pg287 rfl (if_pos hf)
/-! 288 java/util/Arrays.checkLength(II)V -/
theorem eJ10_checkLength : Cl r 288 [vI x0, vI x1] h Q ↔ Rn r 288 0 [some (vI x0), some (vI x1)] [] h Q := Cl_in pg288 rfl
theorem sJ10_checkLength_0 : Rn r 288 0 [l0, some (vI x)] [] h Q ↔ Rn r 288 1 [l0, some (vI x)] [vI x] h Q := Rn_nx pg288 rfl rfl
theorem sJ10_checkLength_1 : Rn r 288 1 [some (vI x), l1] [vI x0] h Q ↔ Rn r 288 2 [some (vI x), l1] [vI x, vI x0] h Q := Rn_nx pg288 rfl rfl
theorem sJ10_checkLength_2 : Rn r 288 2 [l0, l1] [vI x0, vI x1] h Q ↔ if x0 ≤ x1 then Rn r 288 37 [l0, l1] [] h Q else Rn r 288 5 [l0, l1] [] h Q := Rn_if pg288 rfl rfl rfl
theorem sJ10_checkLength_8 : Rn r 288 8 [l0, l1] [vR z0] h Q ↔ Rn r 288 9 [l0, l1] [vR z0, vR z0] h Q := Rn_nx pg288 rfl rfl
theorem sJ10_checkLength_12 : Rn r 288 12 [l0, l1] [vR z0, vR z1, vR z2] h Q ↔ Rn r 288 13 [l0, l1] [vR z0, vR z0, vR z1, vR z2] h Q := Rn_nx pg288 rfl rfl
theorem sJ10_checkLength_37 : Rn r 288 37 [l0, l1] [] h Q ↔ Q (Sum.inl none) h := Rn_end pg288 rfl rfl
/-! 289 jdk/internal/util/ArraysSupport.vectorizedHashCode(Ljava/lang/Object;IIII)I -/
theorem eJ8_vectorizedHashCode : Cl r 289 [vR z0, vI x1, vI x2, vI x3, vI x4] h Q ↔ Rn r 289 0 [some (vR z0), some (vI x1), some (vI x2), some (vI x3), some (vI x4)] [] h Q := Cl_in pg289 rfl
theorem sJ8_vectorizedHashCode_0 : Rn r 289 0 [l0, l1, l2, l3, some (vI x)] [] h Q ↔ Rn r 289 2 [l0, l1, l2, l3, some (vI x)] [vI x] h Q := Rn_nx pg289 rfl rfl
theorem sJ8_vectorizedHashCode_2 : Rn r 289 2 [l0, l1, l2, l3, l4] [vI x0] h Q ↔ Rn r 289 (if x0 = 4 then 44 else if x0 = 5 then 57 else if x0 = 6 then 129 else if x0 = 7 then 129 else if x0 = 8 then 90 else if x0 = 9 then 103 else if x0 = 10 then 116 else 129) [l0, l1, l2, l3, l4] [] h Q := Rn_nx pg289 rfl rfl
theorem sJ8_vectorizedHashCode_44 : Rn r 289 44 [l0, l1, l2, some (vI x), l4] [] h Q ↔ Rn r 289 45 [l0, l1, l2, some (vI x), l4] [vI x] h Q := Rn_nx pg289 rfl rfl
theorem sJ8_vectorizedHashCode_45 : Rn r 289 45 [some (vR z), l1, l2, l3, l4] [vI x0] h Q ↔ Rn r 289 46 [some (vR z), l1, l2, l3, l4] [vR z, vI x0] h Q := Rn_nx pg289 rfl rfl
theorem sJ8_vectorizedHashCode_46_n : Rn r 289 46 [l0, l1, l2, l3, l4] [vR none, vI x1] h Q ↔ Rn r 289 49 [l0, l1, l2, l3, l4] [vR none, vI x1] h Q := Rn_nx pg289 rfl rfl
theorem sJ8_vectorizedHashCode_46 (hk : hK h a0 ∈ [44, 45]) : Rn r 289 46 [l0, l1, l2, l3, l4] [vR (some a0), vI x1] h Q ↔ Rn r 289 49 [l0, l1, l2, l3, l4] [vR (some a0), vI x1] h Q := Rn_nx pg289 rfl (if_pos hk)
theorem sJ8_vectorizedHashCode_49 : Rn r 289 49 [l0, some (vI x), l2, l3, l4] [vR z0, vI x1] h Q ↔ Rn r 289 50 [l0, some (vI x), l2, l3, l4] [vI x, vR z0, vI x1] h Q := Rn_nx pg289 rfl rfl
theorem sJ8_vectorizedHashCode_50 : Rn r 289 50 [l0, l1, some (vI x), l3, l4] [vI x0, vR z1, vI x2] h Q ↔ Rn r 289 51 [l0, l1, some (vI x), l3, l4] [vI x, vI x0, vR z1, vI x2] h Q := Rn_nx pg289 rfl rfl
theorem sJ8_vectorizedHashCode_51 : Rn r 289 51 [l0, l1, l2, l3, l4] [vI x0, vI x1, vR z2, vI x3] h Q ↔ Cl r 302 [vI x3, vR z2, vI x1, vI x0] h (Kt r 289 54 [l0, l1, l2, l3, l4] [] Q) := Rn_call pg289 rfl rfl pg302 rfl rfl rfl
theorem sJ8_vectorizedHashCode_54 : Rn r 289 54 [l0, l1, l2, l3, l4] [vI x0] h Q ↔ Rn r 289 157 [l0, l1, l2, l3, l4] [vI x0] h Q := Rn_nx pg289 rfl rfl
theorem sJ8_vectorizedHashCode_57 : Rn r 289 57 [some (vR z), l1, l2, l3, l4] [] h Q ↔ Rn r 289 58 [some (vR z), l1, l2, l3, l4] [vR z] h Q := Rn_nx pg289 rfl rfl
theorem sJ8_vectorizedHashCode_58_n : Rn r 289 58 [l0, l1, l2, l3, l4] [vR none] h Q ↔ Rn r 289 61 [l0, l1, l2, l3, l4] [vI 0] h Q := Rn_nx pg289 rfl rfl
theorem sJ8_vectorizedHashCode_58 (hk : hK h a0 ∈ [44, 45]) : Rn r 289 58 [l0, l1, l2, l3, l4] [vR (some a0)] h Q ↔ Rn r 289 61 [l0, l1, l2, l3, l4] [vI 1] h Q := Rn_nx pg289 rfl (if_pos hk)
theorem sJ8_vectorizedHashCode_61 : Rn r 289 61 [l0, l1, l2, l3, l4] [vI x0] h Q ↔ if x0 = 0 then Rn r 289 77 [l0, l1, l2, l3, l4] [] h Q else Rn r 289 64 [l0, l1, l2, l3, l4] [] h Q := Rn_if pg289 rfl rfl rfl
theorem sJ8_vectorizedHashCode_64 : Rn r 289 64 [l0, l1, l2, some (vI x), l4] [] h Q ↔ Rn r 289 65 [l0, l1, l2, some (vI x), l4] [vI x] h Q := Rn_nx pg289 rfl rfl
theorem sJ8_vectorizedHashCode_65 : Rn r 289 65 [some (vR z), l1, l2, l3, l4] [vI x0] h Q ↔ Rn r 289 66 [some (vR z), l1, l2, l3, l4] [vR z, vI x0] h Q := Rn_nx pg289 rfl rfl
theorem sJ8_vectorizedHashCode_66_n : Rn r 289 66 [l0, l1, l2, l3, l4] [vR none, vI x1] h Q ↔ Rn r 289 69 [l0, l1, l2, l3, l4] [vR none, vI x1] h Q := Rn_nx pg289 rfl rfl
theorem sJ8_vectorizedHashCode_66 (hk : hK h a0 ∈ [44, 45]) : Rn r 289 66 [l0, l1, l2, l3, l4] [vR (some a0), vI x1] h Q ↔ Rn r 289 69 [l0, l1, l2, l3, l4] [vR (some a0), vI x1] h Q := Rn_nx pg289 rfl (if_pos hk)
theorem sJ8_vectorizedHashCode_69 : Rn r 289 69 [l0, some (vI x), l2, l3, l4] [vR z0, vI x1] h Q ↔ Rn r 289 70 [l0, some (vI x), l2, l3, l4] [vI x, vR z0, vI x1] h Q := Rn_nx pg289 rfl rfl
theorem sJ8_vectorizedHashCode_70 : Rn r 289 70 [l0, l1, some (vI x), l3, l4] [vI x0, vR z1, vI x2] h Q ↔ Rn r 289 71 [l0, l1, some (vI x), l3, l4] [vI x, vI x0, vR z1, vI x2] h Q := Rn_nx pg289 rfl rfl
theorem sJ8_vectorizedHashCode_74 : Rn r 289 74 [l0, l1, l2, l3, l4] [vI x0] h Q ↔ Rn r 289 157 [l0, l1, l2, l3, l4] [vI x0] h Q := Rn_nx pg289 rfl rfl
theorem sJ8_vectorizedHashCode_77 : Rn r 289 77 [l0, l1, l2, some (vI x), l4] [] h Q ↔ Rn r 289 78 [l0, l1, l2, some (vI x), l4] [vI x] h Q := Rn_nx pg289 rfl rfl
theorem sJ8_vectorizedHashCode_78 : Rn r 289 78 [some (vR z), l1, l2, l3, l4] [vI x0] h Q ↔ Rn r 289 79 [some (vR z), l1, l2, l3, l4] [vR z, vI x0] h Q := Rn_nx pg289 rfl rfl
theorem sJ8_vectorizedHashCode_79_n : Rn r 289 79 [l0, l1, l2, l3, l4] [vR none, vI x1] h Q ↔ Rn r 289 82 [l0, l1, l2, l3, l4] [vR none, vI x1] h Q := Rn_nx pg289 rfl rfl
theorem sJ8_vectorizedHashCode_82 : Rn r 289 82 [l0, some (vI x), l2, l3, l4] [vR z0, vI x1] h Q ↔ Rn r 289 83 [l0, some (vI x), l2, l3, l4] [vI x, vR z0, vI x1] h Q := Rn_nx pg289 rfl rfl
theorem sJ8_vectorizedHashCode_83 : Rn r 289 83 [l0, l1, some (vI x), l3, l4] [vI x0, vR z1, vI x2] h Q ↔ Rn r 289 84 [l0, l1, some (vI x), l3, l4] [vI x, vI x0, vR z1, vI x2] h Q := Rn_nx pg289 rfl rfl
theorem sJ8_vectorizedHashCode_87 : Rn r 289 87 [l0, l1, l2, l3, l4] [vI x0] h Q ↔ Rn r 289 157 [l0, l1, l2, l3, l4] [vI x0] h Q := Rn_nx pg289 rfl rfl
theorem sJ8_vectorizedHashCode_90 : Rn r 289 90 [l0, l1, l2, some (vI x), l4] [] h Q ↔ Rn r 289 91 [l0, l1, l2, some (vI x), l4] [vI x] h Q := Rn_nx pg289 rfl rfl
theorem sJ8_vectorizedHashCode_91 : Rn r 289 91 [some (vR z), l1, l2, l3, l4] [vI x0] h Q ↔ Rn r 289 92 [some (vR z), l1, l2, l3, l4] [vR z, vI x0] h Q := Rn_nx pg289 rfl rfl
theorem sJ8_vectorizedHashCode_92_n : Rn r 289 92 [l0, l1, l2, l3, l4] [vR none, vI x1] h Q ↔ Rn r 289 95 [l0, l1, l2, l3, l4] [vR none, vI x1] h Q := Rn_nx pg289 rfl rfl
theorem sJ8_vectorizedHashCode_92 (hk : hK h a0 ∈ [44, 45]) : Rn r 289 92 [l0, l1, l2, l3, l4] [vR (some a0), vI x1] h Q ↔ Rn r 289 95 [l0, l1, l2, l3, l4] [vR (some a0), vI x1] h Q := Rn_nx pg289 rfl (if_pos hk)
theorem sJ8_vectorizedHashCode_95 : Rn r 289 95 [l0, some (vI x), l2, l3, l4] [vR z0, vI x1] h Q ↔ Rn r 289 96 [l0, some (vI x), l2, l3, l4] [vI x, vR z0, vI x1] h Q := Rn_nx pg289 rfl rfl
theorem sJ8_vectorizedHashCode_96 : Rn r 289 96 [l0, l1, some (vI x), l3, l4] [vI x0, vR z1, vI x2] h Q ↔ Rn r 289 97 [l0, l1, some (vI x), l3, l4] [vI x, vI x0, vR z1, vI x2] h Q := Rn_nx pg289 rfl rfl
theorem sJ8_vectorizedHashCode_100 : Rn r 289 100 [l0, l1, l2, l3, l4] [vI x0] h Q ↔ Rn r 289 157 [l0, l1, l2, l3, l4] [vI x0] h Q := Rn_nx pg289 rfl rfl
theorem sJ8_vectorizedHashCode_103 : Rn r 289 103 [l0, l1, l2, some (vI x), l4] [] h Q ↔ Rn r 289 104 [l0, l1, l2, some (vI x), l4] [vI x] h Q := Rn_nx pg289 rfl rfl
theorem sJ8_vectorizedHashCode_104 : Rn r 289 104 [some (vR z), l1, l2, l3, l4] [vI x0] h Q ↔ Rn r 289 105 [some (vR z), l1, l2, l3, l4] [vR z, vI x0] h Q := Rn_nx pg289 rfl rfl
theorem sJ8_vectorizedHashCode_105_n : Rn r 289 105 [l0, l1, l2, l3, l4] [vR none, vI x1] h Q ↔ Rn r 289 108 [l0, l1, l2, l3, l4] [vR none, vI x1] h Q := Rn_nx pg289 rfl rfl
theorem sJ8_vectorizedHashCode_108 : Rn r 289 108 [l0, some (vI x), l2, l3, l4] [vR z0, vI x1] h Q ↔ Rn r 289 109 [l0, some (vI x), l2, l3, l4] [vI x, vR z0, vI x1] h Q := Rn_nx pg289 rfl rfl
theorem sJ8_vectorizedHashCode_109 : Rn r 289 109 [l0, l1, some (vI x), l3, l4] [vI x0, vR z1, vI x2] h Q ↔ Rn r 289 110 [l0, l1, some (vI x), l3, l4] [vI x, vI x0, vR z1, vI x2] h Q := Rn_nx pg289 rfl rfl
theorem sJ8_vectorizedHashCode_113 : Rn r 289 113 [l0, l1, l2, l3, l4] [vI x0] h Q ↔ Rn r 289 157 [l0, l1, l2, l3, l4] [vI x0] h Q := Rn_nx pg289 rfl rfl
theorem sJ8_vectorizedHashCode_116 : Rn r 289 116 [l0, l1, l2, some (vI x), l4] [] h Q ↔ Rn r 289 117 [l0, l1, l2, some (vI x), l4] [vI x] h Q := Rn_nx pg289 rfl rfl
theorem sJ8_vectorizedHashCode_117 : Rn r 289 117 [some (vR z), l1, l2, l3, l4] [vI x0] h Q ↔ Rn r 289 118 [some (vR z), l1, l2, l3, l4] [vR z, vI x0] h Q := Rn_nx pg289 rfl rfl
theorem sJ8_vectorizedHashCode_118_n : Rn r 289 118 [l0, l1, l2, l3, l4] [vR none, vI x1] h Q ↔ Rn r 289 121 [l0, l1, l2, l3, l4] [vR none, vI x1] h Q := Rn_nx pg289 rfl rfl
theorem sJ8_vectorizedHashCode_121 : Rn r 289 121 [l0, some (vI x), l2, l3, l4] [vR z0, vI x1] h Q ↔ Rn r 289 122 [l0, some (vI x), l2, l3, l4] [vI x, vR z0, vI x1] h Q := Rn_nx pg289 rfl rfl
theorem sJ8_vectorizedHashCode_122 : Rn r 289 122 [l0, l1, some (vI x), l3, l4] [vI x0, vR z1, vI x2] h Q ↔ Rn r 289 123 [l0, l1, some (vI x), l3, l4] [vI x, vI x0, vR z1, vI x2] h Q := Rn_nx pg289 rfl rfl
theorem sJ8_vectorizedHashCode_126 : Rn r 289 126 [l0, l1, l2, l3, l4] [vI x0] h Q ↔ Rn r 289 157 [l0, l1, l2, l3, l4] [vI x0] h Q := Rn_nx pg289 rfl rfl
theorem sJ8_vectorizedHashCode_132 : Rn r 289 132 [l0, l1, l2, l3, l4] [vR z0] h Q ↔ Rn r 289 133 [l0, l1, l2, l3, l4] [vR z0, vR z0] h Q := Rn_nx pg289 rfl rfl
theorem sJ8_vectorizedHashCode_136 : Rn r 289 136 [l0, l1, l2, l3, l4] [vR z0, vR z1, vR z2] h Q ↔ Rn r 289 137 [l0, l1, l2, l3, l4] [vR z0, vR z0, vR z1, vR z2] h Q := Rn_nx pg289 rfl rfl
theorem sJ8_vectorizedHashCode_157 : Rn r 289 157 [l0, l1, l2, l3, l4] [vI x0] h Q ↔ Q (Sum.inl (some (vI x0))) h := Rn_end pg289 rfl rfl
/-! 290 java/lang/String.compareTo(Ljava/lang/Object;)I -/
theorem eJ13_compareTo : Cl r 290 [vR z0, vR z1] h Q ↔ Rn r 290 0 [some (vR z0), some (vR z1)] [] h Q := Cl_in pg290 rfl
theorem sJ13_compareTo_0 : Rn r 290 0 [some (vR z), l1] [] h Q ↔ Rn r 290 1 [some (vR z), l1] [vR z] h Q := Rn_nx pg290 rfl rfl
theorem sJ13_compareTo_1 : Rn r 290 1 [l0, some (vR z)] [vR z0] h Q ↔ Rn r 290 2 [l0, some (vR z)] [vR z, vR z0] h Q := Rn_nx pg290 rfl rfl
theorem sJ13_compareTo_2_n : Rn r 290 2 [l0, l1] [vR none, vR z1] h Q ↔ Rn r 290 5 [l0, l1] [vR none, vR z1] h Q := Rn_nx pg290 rfl rfl
theorem sJ13_compareTo_2 (hk : hK h a0 ∈ [10, 11]) : Rn r 290 2 [l0, l1] [vR (some a0), vR z1] h Q ↔ Rn r 290 5 [l0, l1] [vR (some a0), vR z1] h Q := Rn_nx pg290 rfl (if_pos hk)
theorem sJ13_compareTo_5 (hk : 10 ≤ hK h a1) (hk2 : hK h a1 ≤ 11) : Rn r 290 5 [l0, l1] [vR z0, vR (some a1)] h Q ↔ Cl r 303 [vR (some a1), vR z0] h (Kt r 290 8 [l0, l1] [] Q) := Rn_call pg290 rfl (by rcases am_rng2 hk hk2 with q | q <;> simp only [am_exec, am_inv, am_pop, am_lk, q] <;> rfl) pg303 rfl rfl rfl
theorem sJ13_compareTo_8 : Rn r 290 8 [l0, l1] [vI x0] h Q ↔ Q (Sum.inl (some (vI x0))) h := Rn_end pg290 rfl rfl
/-! 291 ThrowRules$Walk.drawn(LThrowRules$Method;)LThrowRules$Kind; -/
theorem eX5_drawn : Cl r 291 [vR z0, vR z1] h Q ↔ Rn r 291 0 [some (vR z0), some (vR z1), none, none, none] [] h Q := Cl_in pg291 rfl
theorem sX5_drawn_0 : Rn r 291 0 [l0, l1, l2, l3, l4] [] h Q ↔ Rn r 291 1 [l0, l1, l2, l3, l4] [vI 0] h Q := Rn_nx pg291 rfl rfl
theorem sX5_drawn_1 : Rn r 291 1 [l0, l1, l2, l3, l4] [vI x0] h Q ↔ Rn r 291 2 [l0, l1, some (vI x0), l3, l4] [] h Q := Rn_nx pg291 rfl rfl
theorem sX5_drawn_2 : Rn r 291 2 [l0, l1, l2, l3, l4] [] h Q ↔ Rn r 291 3 [l0, l1, l2, l3, l4] [vI 0] h Q := Rn_nx pg291 rfl rfl
theorem sX5_drawn_3 : Rn r 291 3 [l0, l1, l2, l3, l4] [vI x0] h Q ↔ Rn r 291 4 [l0, l1, l2, some (vI x0), l4] [] h Q := Rn_nx pg291 rfl rfl
theorem sX5_drawn_4 : Rn r 291 4 [l0, l1, l2, some (vI x), l4] [] h Q ↔ Rn r 291 5 [l0, l1, l2, some (vI x), l4] [vI x] h Q := Rn_nx pg291 rfl rfl
theorem sX5_drawn_5 : Rn r 291 5 [l0, some (vR z), l2, l3, l4] [vI x0] h Q ↔ Rn r 291 6 [l0, some (vR z), l2, l3, l4] [vR z, vI x0] h Q := Rn_nx pg291 rfl rfl
theorem sX5_drawn_6 (hk : hK h a0 = 18) : Rn r 291 6 [l0, l1, l2, l3, l4] [vR (some a0), vI x1] h Q ↔ Rn r 291 9 [l0, l1, l2, l3, l4] [vR (hR h a0 7), vI x1] h Q := Rn_nx pg291 rfl (if_pos ⟨(hk ▸ Nat.le_refl _), (hk ▸ Nat.le_refl _)⟩)
theorem sX5_drawn_9 (hk : hK h a0 = 4) : Rn r 291 9 [l0, l1, l2, l3, l4] [vR (some a0), vI x1] h Q ↔ Cl r 34 [vR (some a0)] h (Kt r 291 12 [l0, l1, l2, l3, l4] [vI x1] Q) := Rn_call pg291 rfl (by simp only [am_exec, am_inv, am_pop, am_lk, hk]; rfl) pg34 rfl rfl rfl
theorem sX5_drawn_12 : Rn r 291 12 [l0, l1, l2, l3, l4] [vI x0, vI x1] h Q ↔ if x0 ≤ x1 then Rn r 291 46 [l0, l1, l2, l3, l4] [] h Q else Rn r 291 15 [l0, l1, l2, l3, l4] [] h Q := Rn_if pg291 rfl rfl rfl
theorem sX5_drawn_15 : Rn r 291 15 [l0, l1, some (vI x), l3, l4] [] h Q ↔ Rn r 291 16 [l0, l1, some (vI x), l3, l4] [vI x] h Q := Rn_nx pg291 rfl rfl
theorem sX5_drawn_16 : Rn r 291 16 [l0, some (vR z), l2, l3, l4] [vI x0] h Q ↔ Rn r 291 17 [l0, some (vR z), l2, l3, l4] [vR z, vI x0] h Q := Rn_nx pg291 rfl rfl
theorem sX5_drawn_17 (hk : hK h a0 = 18) : Rn r 291 17 [l0, l1, l2, l3, l4] [vR (some a0), vI x1] h Q ↔ Rn r 291 20 [l0, l1, l2, l3, l4] [vR (hR h a0 7), vI x1] h Q := Rn_nx pg291 rfl (if_pos ⟨(hk ▸ Nat.le_refl _), (hk ▸ Nat.le_refl _)⟩)
theorem sX5_drawn_20 : Rn r 291 20 [l0, l1, l2, some (vI x), l4] [vR z0, vI x1] h Q ↔ Rn r 291 21 [l0, l1, l2, some (vI x), l4] [vI x, vR z0, vI x1] h Q := Rn_nx pg291 rfl rfl
theorem sX5_drawn_21 (hk : hK h a1 = 4) : Rn r 291 21 [l0, l1, l2, l3, l4] [vI x0, vR (some a1), vI x2] h Q ↔ Cl r 43 [vR (some a1), vI x0] h (Kt r 291 24 [l0, l1, l2, l3, l4] [vI x2] Q) := Rn_call pg291 rfl (by simp only [am_exec, am_inv, am_pop, am_lk, hk]; rfl) pg43 rfl rfl rfl
theorem sX5_drawn_24_n : Rn r 291 24 [l0, l1, l2, l3, l4] [vR none, vI x1] h Q ↔ Rn r 291 27 [l0, l1, l2, l3, l4] [vR none, vI x1] h Q := Rn_nx pg291 rfl rfl
theorem sX5_drawn_24 (hk : hK h a0 ∈ [19]) : Rn r 291 24 [l0, l1, l2, l3, l4] [vR (some a0), vI x1] h Q ↔ Rn r 291 27 [l0, l1, l2, l3, l4] [vR (some a0), vI x1] h Q := Rn_nx pg291 rfl (if_pos hk)
theorem sX5_drawn_27 (hk : hK h a0 = 19) : Rn r 291 27 [l0, l1, l2, l3, l4] [vR (some a0), vI x1] h Q ↔ Rn r 291 30 [l0, l1, l2, l3, l4] [vR (hR h a0 0), vI x1] h Q := Rn_nx pg291 rfl (if_pos ⟨(hk ▸ Nat.le_refl _), (hk ▸ Nat.le_refl _)⟩)
theorem sX5_drawn_30 : Rn r 291 30 [l0, l1, l2, l3, l4] [vR z0, vI x1] h Q ↔ if z0 ≠ none then Rn r 291 37 [l0, l1, l2, l3, l4] [vI x1] h Q else Rn r 291 33 [l0, l1, l2, l3, l4] [vI x1] h Q := Rn_if pg291 rfl rfl rfl
theorem sX5_drawn_33 : Rn r 291 33 [l0, l1, l2, l3, l4] [vI x0] h Q ↔ Rn r 291 34 [l0, l1, l2, l3, l4] [vI 0, vI x0] h Q := Rn_nx pg291 rfl rfl
theorem sX5_drawn_34 : Rn r 291 34 [l0, l1, l2, l3, l4] [vI x0, vI x1] h Q ↔ Rn r 291 38 [l0, l1, l2, l3, l4] [vI x0, vI x1] h Q := Rn_nx pg291 rfl rfl
theorem sX5_drawn_37 : Rn r 291 37 [l0, l1, l2, l3, l4] [vI x0] h Q ↔ Rn r 291 38 [l0, l1, l2, l3, l4] [vI 1, vI x0] h Q := Rn_nx pg291 rfl rfl
theorem sX5_drawn_38 : Rn r 291 38 [l0, l1, l2, l3, l4] [vI x0, vI x1] h Q ↔ Rn r 291 39 [l0, l1, l2, l3, l4] [vI (x1 + x0)] h Q := Rn_nx pg291 rfl rfl
theorem sX5_drawn_39 : Rn r 291 39 [l0, l1, l2, l3, l4] [vI x0] h Q ↔ Rn r 291 40 [l0, l1, some (vI x0), l3, l4] [] h Q := Rn_nx pg291 rfl rfl
theorem sX5_drawn_40 : Rn r 291 40 [l0, l1, l2, some (vI x), l4] [] h Q ↔ Rn r 291 43 [l0, l1, l2, some (vI (x + 1)), l4] [] h Q := Rn_nx pg291 rfl rfl
theorem sX5_drawn_43 : Rn r 291 43 [l0, l1, l2, l3, l4] [] h Q ↔ Rn r 291 4 [l0, l1, l2, l3, l4] [] h Q := Rn_nx pg291 rfl rfl
theorem sX5_drawn_46 : Rn r 291 46 [some (vR z), l1, l2, l3, l4] [] h Q ↔ Rn r 291 47 [some (vR z), l1, l2, l3, l4] [vR z] h Q := Rn_nx pg291 rfl rfl
theorem sX5_drawn_47 : Rn r 291 47 [l0, l1, l2, l3, l4] [vR z0] h Q ↔ Rn r 291 48 [l0, l1, l2, l3, l4] [vI 1, vR z0] h Q := Rn_nx pg291 rfl rfl
theorem sX5_drawn_48 : Rn r 291 48 [l0, l1, some (vI x), l3, l4] [vI x0, vR z1] h Q ↔ Rn r 291 49 [l0, l1, some (vI x), l3, l4] [vI x, vI x0, vR z1] h Q := Rn_nx pg291 rfl rfl
theorem sX5_drawn_49 : Rn r 291 49 [l0, l1, l2, l3, l4] [vI x0, vI x1, vR z2] h Q ↔ Rn r 291 50 [l0, l1, l2, l3, l4] [vI (x1 + x0), vR z2] h Q := Rn_nx pg291 rfl rfl
theorem sX5_drawn_50 (hk : hK h a1 = 14) : Rn r 291 50 [l0, l1, l2, l3, l4] [vI x0, vR (some a1)] h Q ↔ Cl r 253 [vR (some a1), vI x0] h (Kt r 291 53 [l0, l1, l2, l3, l4] [] Q) := Rn_call pg291 rfl (by simp only [am_exec, am_inv, am_pop, am_lk, hk]; rfl) pg253 rfl rfl rfl
theorem sX5_drawn_53 : Rn r 291 53 [l0, l1, l2, l3, l4] [vI x0] h Q ↔ Rn r 291 54 [l0, l1, l2, some (vI x0), l4] [] h Q := Rn_nx pg291 rfl rfl
theorem sX5_drawn_54 : Rn r 291 54 [l0, l1, l2, l3, l4] [] h Q ↔ Rn r 291 55 [l0, l1, l2, l3, l4] [vI 0] h Q := Rn_nx pg291 rfl rfl
theorem sX5_drawn_55 : Rn r 291 55 [l0, l1, l2, l3, l4] [vI x0] h Q ↔ Rn r 291 57 [l0, l1, l2, l3, some (vI x0)] [] h Q := Rn_nx pg291 rfl rfl
theorem sX5_drawn_57 : Rn r 291 57 [l0, l1, l2, l3, some (vI x)] [] h Q ↔ Rn r 291 59 [l0, l1, l2, l3, some (vI x)] [vI x] h Q := Rn_nx pg291 rfl rfl
theorem sX5_drawn_59 : Rn r 291 59 [l0, some (vR z), l2, l3, l4] [vI x0] h Q ↔ Rn r 291 60 [l0, some (vR z), l2, l3, l4] [vR z, vI x0] h Q := Rn_nx pg291 rfl rfl
theorem sX5_drawn_60 (hk : hK h a0 = 18) : Rn r 291 60 [l0, l1, l2, l3, l4] [vR (some a0), vI x1] h Q ↔ Rn r 291 63 [l0, l1, l2, l3, l4] [vR (hR h a0 7), vI x1] h Q := Rn_nx pg291 rfl (if_pos ⟨(hk ▸ Nat.le_refl _), (hk ▸ Nat.le_refl _)⟩)
theorem sX5_drawn_63 (hk : hK h a0 = 4) : Rn r 291 63 [l0, l1, l2, l3, l4] [vR (some a0), vI x1] h Q ↔ Cl r 34 [vR (some a0)] h (Kt r 291 66 [l0, l1, l2, l3, l4] [vI x1] Q) := Rn_call pg291 rfl (by simp only [am_exec, am_inv, am_pop, am_lk, hk]; rfl) pg34 rfl rfl rfl
theorem sX5_drawn_66 : Rn r 291 66 [l0, l1, l2, l3, l4] [vI x0, vI x1] h Q ↔ if x0 ≤ x1 then Rn r 291 120 [l0, l1, l2, l3, l4] [] h Q else Rn r 291 69 [l0, l1, l2, l3, l4] [] h Q := Rn_if pg291 rfl rfl rfl
theorem sX5_drawn_69 : Rn r 291 69 [l0, l1, l2, some (vI x), l4] [] h Q ↔ Rn r 291 70 [l0, l1, l2, some (vI x), l4] [vI x] h Q := Rn_nx pg291 rfl rfl
theorem sX5_drawn_70 : Rn r 291 70 [l0, l1, l2, l3, l4] [vI x0] h Q ↔ if x0 ≤ 0 then Rn r 291 120 [l0, l1, l2, l3, l4] [] h Q else Rn r 291 73 [l0, l1, l2, l3, l4] [] h Q := Rn_if pg291 rfl rfl rfl
theorem sX5_drawn_73 : Rn r 291 73 [l0, some (vR z), l2, l3, l4] [] h Q ↔ Rn r 291 74 [l0, some (vR z), l2, l3, l4] [vR z] h Q := Rn_nx pg291 rfl rfl
theorem sX5_drawn_74 (hk : hK h a0 = 18) : Rn r 291 74 [l0, l1, l2, l3, l4] [vR (some a0)] h Q ↔ Rn r 291 77 [l0, l1, l2, l3, l4] [vR (hR h a0 7)] h Q := Rn_nx pg291 rfl (if_pos ⟨(hk ▸ Nat.le_refl _), (hk ▸ Nat.le_refl _)⟩)
theorem sX5_drawn_77 : Rn r 291 77 [l0, l1, l2, l3, some (vI x)] [vR z0] h Q ↔ Rn r 291 79 [l0, l1, l2, l3, some (vI x)] [vI x, vR z0] h Q := Rn_nx pg291 rfl rfl
theorem sX5_drawn_79 (hk : hK h a1 = 4) : Rn r 291 79 [l0, l1, l2, l3, l4] [vI x0, vR (some a1)] h Q ↔ Cl r 43 [vR (some a1), vI x0] h (Kt r 291 82 [l0, l1, l2, l3, l4] [] Q) := Rn_call pg291 rfl (by simp only [am_exec, am_inv, am_pop, am_lk, hk]; rfl) pg43 rfl rfl rfl
theorem sX5_drawn_82_n : Rn r 291 82 [l0, l1, l2, l3, l4] [vR none] h Q ↔ Rn r 291 85 [l0, l1, l2, l3, l4] [vR none] h Q := Rn_nx pg291 rfl rfl
theorem sX5_drawn_82 (hk : hK h a0 ∈ [19]) : Rn r 291 82 [l0, l1, l2, l3, l4] [vR (some a0)] h Q ↔ Rn r 291 85 [l0, l1, l2, l3, l4] [vR (some a0)] h Q := Rn_nx pg291 rfl (if_pos hk)
theorem sX5_drawn_85 (hk : hK h a0 = 19) : Rn r 291 85 [l0, l1, l2, l3, l4] [vR (some a0)] h Q ↔ Rn r 291 88 [l0, l1, l2, l3, l4] [vR (hR h a0 0)] h Q := Rn_nx pg291 rfl (if_pos ⟨(hk ▸ Nat.le_refl _), (hk ▸ Nat.le_refl _)⟩)
theorem sX5_drawn_88 : Rn r 291 88 [l0, l1, l2, l3, l4] [vR z0] h Q ↔ if z0 = none then Rn r 291 114 [l0, l1, l2, l3, l4] [] h Q else Rn r 291 91 [l0, l1, l2, l3, l4] [] h Q := Rn_if pg291 rfl rfl rfl
theorem sX5_drawn_91 : Rn r 291 91 [l0, l1, l2, some (vI x), l4] [] h Q ↔ Rn r 291 94 [l0, l1, l2, some (vI (x + (-1))), l4] [] h Q := Rn_nx pg291 rfl rfl
theorem sX5_drawn_94 : Rn r 291 94 [l0, l1, l2, some (vI x), l4] [] h Q ↔ Rn r 291 95 [l0, l1, l2, some (vI x), l4] [vI x] h Q := Rn_nx pg291 rfl rfl
theorem sX5_drawn_95 : Rn r 291 95 [l0, l1, l2, l3, l4] [vI x0] h Q ↔ if x0 ≠ 0 then Rn r 291 114 [l0, l1, l2, l3, l4] [] h Q else Rn r 291 98 [l0, l1, l2, l3, l4] [] h Q := Rn_if pg291 rfl rfl rfl
theorem sX5_drawn_98 : Rn r 291 98 [l0, some (vR z), l2, l3, l4] [] h Q ↔ Rn r 291 99 [l0, some (vR z), l2, l3, l4] [vR z] h Q := Rn_nx pg291 rfl rfl
theorem sX5_drawn_99 (hk : hK h a0 = 18) : Rn r 291 99 [l0, l1, l2, l3, l4] [vR (some a0)] h Q ↔ Rn r 291 102 [l0, l1, l2, l3, l4] [vR (hR h a0 7)] h Q := Rn_nx pg291 rfl (if_pos ⟨(hk ▸ Nat.le_refl _), (hk ▸ Nat.le_refl _)⟩)
theorem sX5_drawn_102 : Rn r 291 102 [l0, l1, l2, l3, some (vI x)] [vR z0] h Q ↔ Rn r 291 104 [l0, l1, l2, l3, some (vI x)] [vI x, vR z0] h Q := Rn_nx pg291 rfl rfl
theorem sX5_drawn_104 (hk : hK h a1 = 4) : Rn r 291 104 [l0, l1, l2, l3, l4] [vI x0, vR (some a1)] h Q ↔ Cl r 43 [vR (some a1), vI x0] h (Kt r 291 107 [l0, l1, l2, l3, l4] [] Q) := Rn_call pg291 rfl (by simp only [am_exec, am_inv, am_pop, am_lk, hk]; rfl) pg43 rfl rfl rfl
theorem sX5_drawn_107_n : Rn r 291 107 [l0, l1, l2, l3, l4] [vR none] h Q ↔ Rn r 291 110 [l0, l1, l2, l3, l4] [vR none] h Q := Rn_nx pg291 rfl rfl
theorem sX5_drawn_107 (hk : hK h a0 ∈ [19]) : Rn r 291 107 [l0, l1, l2, l3, l4] [vR (some a0)] h Q ↔ Rn r 291 110 [l0, l1, l2, l3, l4] [vR (some a0)] h Q := Rn_nx pg291 rfl (if_pos hk)
theorem sX5_drawn_110 (hk : hK h a0 = 19) : Rn r 291 110 [l0, l1, l2, l3, l4] [vR (some a0)] h Q ↔ Rn r 291 113 [l0, l1, l2, l3, l4] [vR (hR h a0 0)] h Q := Rn_nx pg291 rfl (if_pos ⟨(hk ▸ Nat.le_refl _), (hk ▸ Nat.le_refl _)⟩)
theorem sX5_drawn_113 : Rn r 291 113 [l0, l1, l2, l3, l4] [vR z0] h Q ↔ Q (Sum.inl (some (vR z0))) h := Rn_end pg291 rfl rfl
theorem sX5_drawn_114 : Rn r 291 114 [l0, l1, l2, l3, some (vI x)] [] h Q ↔ Rn r 291 117 [l0, l1, l2, l3, some (vI (x + 1))] [] h Q := Rn_nx pg291 rfl rfl
theorem sX5_drawn_117 : Rn r 291 117 [l0, l1, l2, l3, l4] [] h Q ↔ Rn r 291 57 [l0, l1, l2, l3, l4] [] h Q := Rn_nx pg291 rfl rfl
theorem sX5_drawn_120 : Rn r 291 120 [l0, l1, l2, l3, l4] [] h Q ↔ Rn r 291 121 [l0, l1, l2, l3, l4] [vR none] h Q := Rn_nx pg291 rfl rfl
theorem sX5_drawn_121 : Rn r 291 121 [l0, l1, l2, l3, l4] [vR z0] h Q ↔ Q (Sum.inl (some (vR z0))) h := Rn_end pg291 rfl rfl
/-! 292 java/util/Arrays.copyOf([Ljava/lang/Object;I)[Ljava/lang/Object; -/
theorem eJ10_copyOf : Cl r 292 [vR z0, vI x1] h Q ↔ Rn r 292 0 [some (vR z0), some (vI x1)] [] h Q := Cl_in pg292 rfl
theorem sJ10_copyOf_0 : Rn r 292 0 [some (vR z), l1] [] h Q ↔ Rn r 292 1 [some (vR z), l1] [vR z] h Q := Rn_nx pg292 rfl rfl
theorem sJ10_copyOf_1 : Rn r 292 1 [l0, some (vI x)] [vR z0] h Q ↔ Rn r 292 2 [l0, some (vI x)] [vI x, vR z0] h Q := Rn_nx pg292 rfl rfl
theorem sJ10_copyOf_2 : Rn r 292 2 [some (vR z), l1] [vI x0, vR z1] h Q ↔ Rn r 292 3 [some (vR z), l1] [vR z, vI x0, vR z1] h Q := Rn_nx pg292 rfl rfl
theorem sJ10_copyOf_3 (hk : hK h a0 = 10 ∨ hK h a0 = 11) : Rn r 292 3 [l0, l1] [vR (some a0), vI x1, vR z2] h Q ↔ Rn r 292 6 [l0, l1] [vR (some (hE h 40)), vI x1, vR z2] h Q := by rcases hk with hk | hk <;> exact Rn_nx pg292 rfl (by simp only [am_exec, am_inv, am_nat, hk]; rfl)
theorem sJ10_copyOf_3_o (hk : hK h a0 = 46 ∨ hK h a0 = 47) : Rn r 292 3 [l0, l1] [vR (some a0), vI x1, vR z2] h Q ↔ Rn r 292 6 [l0, l1] [vR (some (hE h 41)), vI x1, vR z2] h Q := by rcases hk with hk | hk <;> exact Rn_nx pg292 rfl (by simp only [am_exec, am_inv, am_nat, hk]; rfl)
theorem sJ10_copyOf_6 : Rn r 292 6 [l0, l1] [vR z0, vI x1, vR z2] h Q ↔ Cl r 304 [vR z2, vI x1, vR z0] h (Kt r 292 9 [l0, l1] [] Q) := Rn_call pg292 rfl rfl pg304 rfl rfl rfl
theorem sJ10_copyOf_9 : Rn r 292 9 [l0, l1] [vR z0] h Q ↔ Q (Sum.inl (some (vR z0))) h := Rn_end pg292 rfl rfl
/-! 293 java/util/HashMap$TreeNode.<init>(ILjava/lang/Object;Ljava/lang/Object;Ljava/util/HashMap$Node;)V -/
theorem eJ21_init : Cl r 293 [vR z0, vI x1, vR z2, vR z3, vR z4] h Q ↔ Rn r 293 0 [some (vR z0), some (vI x1), some (vR z2), some (vR z3), some (vR z4)] [] h Q := Cl_in pg293 rfl
theorem sJ21_init_0 : Rn r 293 0 [some (vR z), l1, l2, l3, l4] [] h Q ↔ Rn r 293 1 [some (vR z), l1, l2, l3, l4] [vR z] h Q := Rn_nx pg293 rfl rfl
theorem sJ21_init_1 : Rn r 293 1 [l0, some (vI x), l2, l3, l4] [vR z0] h Q ↔ Rn r 293 2 [l0, some (vI x), l2, l3, l4] [vI x, vR z0] h Q := Rn_nx pg293 rfl rfl
theorem sJ21_init_2 : Rn r 293 2 [l0, l1, some (vR z), l3, l4] [vI x0, vR z1] h Q ↔ Rn r 293 3 [l0, l1, some (vR z), l3, l4] [vR z, vI x0, vR z1] h Q := Rn_nx pg293 rfl rfl
theorem sJ21_init_3 : Rn r 293 3 [l0, l1, l2, some (vR z), l4] [vR z0, vI x1, vR z2] h Q ↔ Rn r 293 4 [l0, l1, l2, some (vR z), l4] [vR z, vR z0, vI x1, vR z2] h Q := Rn_nx pg293 rfl rfl
theorem sJ21_init_4 : Rn r 293 4 [l0, l1, l2, l3, some (vR z)] [vR z0, vR z1, vI x2, vR z3] h Q ↔ Rn r 293 6 [l0, l1, l2, l3, some (vR z)] [vR z, vR z0, vR z1, vI x2, vR z3] h Q := Rn_nx pg293 rfl rfl
theorem sJ21_init_6 (hk : 0 < hK h a4) (hk2 : hK h a4 < 40) : Rn r 293 6 [l0, l1, l2, l3, l4] [vR z0, vR z1, vR z2, vI x3, vR (some a4)] h Q ↔ Cl r 305 [vR (some a4), vI x3, vR z2, vR z1, vR z0] h (Kt r 293 9 [l0, l1, l2, l3, l4] [] Q) := Rn_call pg293 rfl (if_pos ⟨hk, hk2⟩) pg305 rfl rfl rfl
theorem sJ21_init_9 : Rn r 293 9 [l0, l1, l2, l3, l4] [] h Q ↔ Q (Sum.inl none) h := Rn_end pg293 rfl rfl
/-! 294 java/util/HashMap$TreeNode.rotateLeft(Ljava/util/HashMap$TreeNode;Ljava/util/HashMap$TreeNode;)Ljava/util/HashMap$TreeNode; -/
theorem eJ21_rotateLeft : Cl r 294 [vR z0, vR z1] h Q ↔ Rn r 294 0 [some (vR z0), some (vR z1), none, none, none] [] h Q := Cl_in pg294 rfl
theorem sJ21_rotateLeft_0 : Rn r 294 0 [l0, some (vR z), l2, l3, l4] [] h Q ↔ Rn r 294 1 [l0, some (vR z), l2, l3, l4] [vR z] h Q := Rn_nx pg294 rfl rfl
theorem sJ21_rotateLeft_1 : Rn r 294 1 [l0, l1, l2, l3, l4] [vR z0] h Q ↔ if z0 = none then Rn r 294 89 [l0, l1, l2, l3, l4] [] h Q else Rn r 294 4 [l0, l1, l2, l3, l4] [] h Q := Rn_if pg294 rfl rfl rfl
theorem sJ21_rotateLeft_4 : Rn r 294 4 [l0, some (vR z), l2, l3, l4] [] h Q ↔ Rn r 294 5 [l0, some (vR z), l2, l3, l4] [vR z] h Q := Rn_nx pg294 rfl rfl
theorem sJ21_rotateLeft_5 (hk : hK h a0 = 13) : Rn r 294 5 [l0, l1, l2, l3, l4] [vR (some a0)] h Q ↔ Rn r 294 8 [l0, l1, l2, l3, l4] [vR (hR h a0 6)] h Q := Rn_nx pg294 rfl (if_pos ⟨(hk ▸ Nat.le_refl _), (hk ▸ Nat.le_refl _)⟩)
theorem sJ21_rotateLeft_8 : Rn r 294 8 [l0, l1, l2, l3, l4] [vR z0] h Q ↔ Rn r 294 9 [l0, l1, l2, l3, l4] [vR z0, vR z0] h Q := Rn_nx pg294 rfl rfl
theorem sJ21_rotateLeft_9 : Rn r 294 9 [l0, l1, l2, l3, l4] [vR z0, vR z1] h Q ↔ Rn r 294 10 [l0, l1, some (vR z0), l3, l4] [vR z1] h Q := Rn_nx pg294 rfl rfl
theorem sJ21_rotateLeft_10 : Rn r 294 10 [l0, l1, l2, l3, l4] [vR z0] h Q ↔ if z0 = none then Rn r 294 89 [l0, l1, l2, l3, l4] [] h Q else Rn r 294 13 [l0, l1, l2, l3, l4] [] h Q := Rn_if pg294 rfl rfl rfl
theorem sJ21_rotateLeft_13 : Rn r 294 13 [l0, some (vR z), l2, l3, l4] [] h Q ↔ Rn r 294 14 [l0, some (vR z), l2, l3, l4] [vR z] h Q := Rn_nx pg294 rfl rfl
theorem sJ21_rotateLeft_14 : Rn r 294 14 [l0, l1, some (vR z), l3, l4] [vR z0] h Q ↔ Rn r 294 15 [l0, l1, some (vR z), l3, l4] [vR z, vR z0] h Q := Rn_nx pg294 rfl rfl
theorem sJ21_rotateLeft_15 (hk : hK h a0 = 13) : Rn r 294 15 [l0, l1, l2, l3, l4] [vR (some a0), vR z1] h Q ↔ Rn r 294 18 [l0, l1, l2, l3, l4] [vR (hR h a0 5), vR z1] h Q := Rn_nx pg294 rfl (if_pos ⟨(hk ▸ Nat.le_refl _), (hk ▸ Nat.le_refl _)⟩)
theorem sJ21_rotateLeft_18 : Rn r 294 18 [l0, l1, l2, l3, l4] [vR z0, vR z1] h Q ↔ Rn r 294 19 [l0, l1, l2, l3, l4] [vR z0, vR z1, vR z0] h Q := Rn_nx pg294 rfl rfl
theorem sJ21_rotateLeft_19 (hk : hK h a1 = 13) : Rn r 294 19 [l0, l1, l2, l3, l4] [vR z0, vR (some a1), vR z2] h Q ↔ Rn r 294 22 [l0, l1, l2, l3, l4] [vR z2] (putR h a1 6 z0) Q := Rn_nx pg294 rfl ((if_pos ⟨(hk ▸ Nat.le_refl _), (hk ▸ Nat.le_refl _)⟩).trans rfl)
theorem sJ21_rotateLeft_22 : Rn r 294 22 [l0, l1, l2, l3, l4] [vR z0] h Q ↔ Rn r 294 23 [l0, l1, l2, l3, l4] [vR z0, vR z0] h Q := Rn_nx pg294 rfl rfl
theorem sJ21_rotateLeft_23 : Rn r 294 23 [l0, l1, l2, l3, l4] [vR z0, vR z1] h Q ↔ Rn r 294 25 [l0, l1, l2, l3, some (vR z0)] [vR z1] h Q := Rn_nx pg294 rfl rfl
theorem sJ21_rotateLeft_25 : Rn r 294 25 [l0, l1, l2, l3, l4] [vR z0] h Q ↔ if z0 = none then Rn r 294 34 [l0, l1, l2, l3, l4] [] h Q else Rn r 294 28 [l0, l1, l2, l3, l4] [] h Q := Rn_if pg294 rfl rfl rfl
theorem sJ21_rotateLeft_28 : Rn r 294 28 [l0, l1, l2, l3, some (vR z)] [] h Q ↔ Rn r 294 30 [l0, l1, l2, l3, some (vR z)] [vR z] h Q := Rn_nx pg294 rfl rfl
theorem sJ21_rotateLeft_30 : Rn r 294 30 [l0, some (vR z), l2, l3, l4] [vR z0] h Q ↔ Rn r 294 31 [l0, some (vR z), l2, l3, l4] [vR z, vR z0] h Q := Rn_nx pg294 rfl rfl
theorem sJ21_rotateLeft_31 (hk : hK h a1 = 13) : Rn r 294 31 [l0, l1, l2, l3, l4] [vR z0, vR (some a1)] h Q ↔ Rn r 294 34 [l0, l1, l2, l3, l4] [] (putR h a1 4 z0) Q := Rn_nx pg294 rfl ((if_pos ⟨(hk ▸ Nat.le_refl _), (hk ▸ Nat.le_refl _)⟩).trans rfl)
theorem sJ21_rotateLeft_34 : Rn r 294 34 [l0, l1, some (vR z), l3, l4] [] h Q ↔ Rn r 294 35 [l0, l1, some (vR z), l3, l4] [vR z] h Q := Rn_nx pg294 rfl rfl
theorem sJ21_rotateLeft_35 : Rn r 294 35 [l0, some (vR z), l2, l3, l4] [vR z0] h Q ↔ Rn r 294 36 [l0, some (vR z), l2, l3, l4] [vR z, vR z0] h Q := Rn_nx pg294 rfl rfl
theorem sJ21_rotateLeft_36 (hk : hK h a0 = 13) : Rn r 294 36 [l0, l1, l2, l3, l4] [vR (some a0), vR z1] h Q ↔ Rn r 294 39 [l0, l1, l2, l3, l4] [vR (hR h a0 4), vR z1] h Q := Rn_nx pg294 rfl (if_pos ⟨(hk ▸ Nat.le_refl _), (hk ▸ Nat.le_refl _)⟩)
theorem sJ21_rotateLeft_39 : Rn r 294 39 [l0, l1, l2, l3, l4] [vR z0, vR z1] h Q ↔ Rn r 294 40 [l0, l1, l2, l3, l4] [vR z0, vR z1, vR z0] h Q := Rn_nx pg294 rfl rfl
theorem sJ21_rotateLeft_40 (hk : hK h a1 = 13) : Rn r 294 40 [l0, l1, l2, l3, l4] [vR z0, vR (some a1), vR z2] h Q ↔ Rn r 294 43 [l0, l1, l2, l3, l4] [vR z2] (putR h a1 4 z0) Q := Rn_nx pg294 rfl ((if_pos ⟨(hk ▸ Nat.le_refl _), (hk ▸ Nat.le_refl _)⟩).trans rfl)
theorem sJ21_rotateLeft_43 : Rn r 294 43 [l0, l1, l2, l3, l4] [vR z0] h Q ↔ Rn r 294 44 [l0, l1, l2, l3, l4] [vR z0, vR z0] h Q := Rn_nx pg294 rfl rfl
theorem sJ21_rotateLeft_44 : Rn r 294 44 [l0, l1, l2, l3, l4] [vR z0, vR z1] h Q ↔ Rn r 294 45 [l0, l1, l2, some (vR z0), l4] [vR z1] h Q := Rn_nx pg294 rfl rfl
theorem sJ21_rotateLeft_45 : Rn r 294 45 [l0, l1, l2, l3, l4] [vR z0] h Q ↔ if z0 ≠ none then Rn r 294 58 [l0, l1, l2, l3, l4] [] h Q else Rn r 294 48 [l0, l1, l2, l3, l4] [] h Q := Rn_if pg294 rfl rfl rfl
theorem sJ21_rotateLeft_48 : Rn r 294 48 [l0, l1, some (vR z), l3, l4] [] h Q ↔ Rn r 294 49 [l0, l1, some (vR z), l3, l4] [vR z] h Q := Rn_nx pg294 rfl rfl
theorem sJ21_rotateLeft_49 : Rn r 294 49 [l0, l1, l2, l3, l4] [vR z0] h Q ↔ Rn r 294 50 [l0, l1, l2, l3, l4] [vR z0, vR z0] h Q := Rn_nx pg294 rfl rfl
theorem sJ21_rotateLeft_50 : Rn r 294 50 [l0, l1, l2, l3, l4] [vR z0, vR z1] h Q ↔ Rn r 294 51 [some (vR z0), l1, l2, l3, l4] [vR z1] h Q := Rn_nx pg294 rfl rfl
theorem sJ21_rotateLeft_51 : Rn r 294 51 [l0, l1, l2, l3, l4] [vR z0] h Q ↔ Rn r 294 52 [l0, l1, l2, l3, l4] [vI 0, vR z0] h Q := Rn_nx pg294 rfl rfl
theorem sJ21_rotateLeft_52 (hk : hK h a1 = 13) (hf : am_fit 4 x0 = true) : Rn r 294 52 [l0, l1, l2, l3, l4] [vI x0, vR (some a1)] h Q ↔ Rn r 294 55 [l0, l1, l2, l3, l4] [] (putI h a1 8 x0) Q := Rn_nx pg294 rfl ((if_pos ⟨(hk ▸ Nat.le_refl _), (hk ▸ Nat.le_refl _)⟩).trans (if_pos hf))
theorem sJ21_rotateLeft_55 : Rn r 294 55 [l0, l1, l2, l3, l4] [] h Q ↔ Rn r 294 79 [l0, l1, l2, l3, l4] [] h Q := Rn_nx pg294 rfl rfl
theorem sJ21_rotateLeft_58 : Rn r 294 58 [l0, l1, l2, some (vR z), l4] [] h Q ↔ Rn r 294 59 [l0, l1, l2, some (vR z), l4] [vR z] h Q := Rn_nx pg294 rfl rfl
theorem sJ21_rotateLeft_59 (hk : hK h a0 = 13) : Rn r 294 59 [l0, l1, l2, l3, l4] [vR (some a0)] h Q ↔ Rn r 294 62 [l0, l1, l2, l3, l4] [vR (hR h a0 5)] h Q := Rn_nx pg294 rfl (if_pos ⟨(hk ▸ Nat.le_refl _), (hk ▸ Nat.le_refl _)⟩)
theorem sJ21_rotateLeft_62 : Rn r 294 62 [l0, some (vR z), l2, l3, l4] [vR z0] h Q ↔ Rn r 294 63 [l0, some (vR z), l2, l3, l4] [vR z, vR z0] h Q := Rn_nx pg294 rfl rfl
theorem sJ21_rotateLeft_63 : Rn r 294 63 [l0, l1, l2, l3, l4] [vR z0, vR z1] h Q ↔ if z1 ≠ z0 then Rn r 294 74 [l0, l1, l2, l3, l4] [] h Q else Rn r 294 66 [l0, l1, l2, l3, l4] [] h Q := Rn_if pg294 rfl rfl rfl
theorem sJ21_rotateLeft_66 : Rn r 294 66 [l0, l1, l2, some (vR z), l4] [] h Q ↔ Rn r 294 67 [l0, l1, l2, some (vR z), l4] [vR z] h Q := Rn_nx pg294 rfl rfl
theorem sJ21_rotateLeft_67 : Rn r 294 67 [l0, l1, some (vR z), l3, l4] [vR z0] h Q ↔ Rn r 294 68 [l0, l1, some (vR z), l3, l4] [vR z, vR z0] h Q := Rn_nx pg294 rfl rfl
theorem sJ21_rotateLeft_68 (hk : hK h a1 = 13) : Rn r 294 68 [l0, l1, l2, l3, l4] [vR z0, vR (some a1)] h Q ↔ Rn r 294 71 [l0, l1, l2, l3, l4] [] (putR h a1 5 z0) Q := Rn_nx pg294 rfl ((if_pos ⟨(hk ▸ Nat.le_refl _), (hk ▸ Nat.le_refl _)⟩).trans rfl)
theorem sJ21_rotateLeft_71 : Rn r 294 71 [l0, l1, l2, l3, l4] [] h Q ↔ Rn r 294 79 [l0, l1, l2, l3, l4] [] h Q := Rn_nx pg294 rfl rfl
theorem sJ21_rotateLeft_74 : Rn r 294 74 [l0, l1, l2, some (vR z), l4] [] h Q ↔ Rn r 294 75 [l0, l1, l2, some (vR z), l4] [vR z] h Q := Rn_nx pg294 rfl rfl
theorem sJ21_rotateLeft_75 : Rn r 294 75 [l0, l1, some (vR z), l3, l4] [vR z0] h Q ↔ Rn r 294 76 [l0, l1, some (vR z), l3, l4] [vR z, vR z0] h Q := Rn_nx pg294 rfl rfl
theorem sJ21_rotateLeft_76 (hk : hK h a1 = 13) : Rn r 294 76 [l0, l1, l2, l3, l4] [vR z0, vR (some a1)] h Q ↔ Rn r 294 79 [l0, l1, l2, l3, l4] [] (putR h a1 6 z0) Q := Rn_nx pg294 rfl ((if_pos ⟨(hk ▸ Nat.le_refl _), (hk ▸ Nat.le_refl _)⟩).trans rfl)
theorem sJ21_rotateLeft_79 : Rn r 294 79 [l0, l1, some (vR z), l3, l4] [] h Q ↔ Rn r 294 80 [l0, l1, some (vR z), l3, l4] [vR z] h Q := Rn_nx pg294 rfl rfl
theorem sJ21_rotateLeft_80 : Rn r 294 80 [l0, some (vR z), l2, l3, l4] [vR z0] h Q ↔ Rn r 294 81 [l0, some (vR z), l2, l3, l4] [vR z, vR z0] h Q := Rn_nx pg294 rfl rfl
theorem sJ21_rotateLeft_81 (hk : hK h a1 = 13) : Rn r 294 81 [l0, l1, l2, l3, l4] [vR z0, vR (some a1)] h Q ↔ Rn r 294 84 [l0, l1, l2, l3, l4] [] (putR h a1 5 z0) Q := Rn_nx pg294 rfl ((if_pos ⟨(hk ▸ Nat.le_refl _), (hk ▸ Nat.le_refl _)⟩).trans rfl)
theorem sJ21_rotateLeft_84 : Rn r 294 84 [l0, some (vR z), l2, l3, l4] [] h Q ↔ Rn r 294 85 [l0, some (vR z), l2, l3, l4] [vR z] h Q := Rn_nx pg294 rfl rfl
theorem sJ21_rotateLeft_85 : Rn r 294 85 [l0, l1, some (vR z), l3, l4] [vR z0] h Q ↔ Rn r 294 86 [l0, l1, some (vR z), l3, l4] [vR z, vR z0] h Q := Rn_nx pg294 rfl rfl
theorem sJ21_rotateLeft_86 (hk : hK h a1 = 13) : Rn r 294 86 [l0, l1, l2, l3, l4] [vR z0, vR (some a1)] h Q ↔ Rn r 294 89 [l0, l1, l2, l3, l4] [] (putR h a1 4 z0) Q := Rn_nx pg294 rfl ((if_pos ⟨(hk ▸ Nat.le_refl _), (hk ▸ Nat.le_refl _)⟩).trans rfl)
theorem sJ21_rotateLeft_89 : Rn r 294 89 [some (vR z), l1, l2, l3, l4] [] h Q ↔ Rn r 294 90 [some (vR z), l1, l2, l3, l4] [vR z] h Q := Rn_nx pg294 rfl rfl
theorem sJ21_rotateLeft_90 : Rn r 294 90 [l0, l1, l2, l3, l4] [vR z0] h Q ↔ Q (Sum.inl (some (vR z0))) h := Rn_end pg294 rfl rfl
/-! 295 java/util/HashMap$TreeNode.rotateRight(Ljava/util/HashMap$TreeNode;Ljava/util/HashMap$TreeNode;)Ljava/util/HashMap$TreeNode; -/
theorem eJ21_rotateRight : Cl r 295 [vR z0, vR z1] h Q ↔ Rn r 295 0 [some (vR z0), some (vR z1), none, none, none] [] h Q := Cl_in pg295 rfl
theorem sJ21_rotateRight_0 : Rn r 295 0 [l0, some (vR z), l2, l3, l4] [] h Q ↔ Rn r 295 1 [l0, some (vR z), l2, l3, l4] [vR z] h Q := Rn_nx pg295 rfl rfl
theorem sJ21_rotateRight_1 : Rn r 295 1 [l0, l1, l2, l3, l4] [vR z0] h Q ↔ if z0 = none then Rn r 295 89 [l0, l1, l2, l3, l4] [] h Q else Rn r 295 4 [l0, l1, l2, l3, l4] [] h Q := Rn_if pg295 rfl rfl rfl
theorem sJ21_rotateRight_4 : Rn r 295 4 [l0, some (vR z), l2, l3, l4] [] h Q ↔ Rn r 295 5 [l0, some (vR z), l2, l3, l4] [vR z] h Q := Rn_nx pg295 rfl rfl
theorem sJ21_rotateRight_5 (hk : hK h a0 = 13) : Rn r 295 5 [l0, l1, l2, l3, l4] [vR (some a0)] h Q ↔ Rn r 295 8 [l0, l1, l2, l3, l4] [vR (hR h a0 5)] h Q := Rn_nx pg295 rfl (if_pos ⟨(hk ▸ Nat.le_refl _), (hk ▸ Nat.le_refl _)⟩)
theorem sJ21_rotateRight_8 : Rn r 295 8 [l0, l1, l2, l3, l4] [vR z0] h Q ↔ Rn r 295 9 [l0, l1, l2, l3, l4] [vR z0, vR z0] h Q := Rn_nx pg295 rfl rfl
theorem sJ21_rotateRight_9 : Rn r 295 9 [l0, l1, l2, l3, l4] [vR z0, vR z1] h Q ↔ Rn r 295 10 [l0, l1, some (vR z0), l3, l4] [vR z1] h Q := Rn_nx pg295 rfl rfl
theorem sJ21_rotateRight_10 : Rn r 295 10 [l0, l1, l2, l3, l4] [vR z0] h Q ↔ if z0 = none then Rn r 295 89 [l0, l1, l2, l3, l4] [] h Q else Rn r 295 13 [l0, l1, l2, l3, l4] [] h Q := Rn_if pg295 rfl rfl rfl
theorem sJ21_rotateRight_13 : Rn r 295 13 [l0, some (vR z), l2, l3, l4] [] h Q ↔ Rn r 295 14 [l0, some (vR z), l2, l3, l4] [vR z] h Q := Rn_nx pg295 rfl rfl
theorem sJ21_rotateRight_14 : Rn r 295 14 [l0, l1, some (vR z), l3, l4] [vR z0] h Q ↔ Rn r 295 15 [l0, l1, some (vR z), l3, l4] [vR z, vR z0] h Q := Rn_nx pg295 rfl rfl
theorem sJ21_rotateRight_15 (hk : hK h a0 = 13) : Rn r 295 15 [l0, l1, l2, l3, l4] [vR (some a0), vR z1] h Q ↔ Rn r 295 18 [l0, l1, l2, l3, l4] [vR (hR h a0 6), vR z1] h Q := Rn_nx pg295 rfl (if_pos ⟨(hk ▸ Nat.le_refl _), (hk ▸ Nat.le_refl _)⟩)
theorem sJ21_rotateRight_18 : Rn r 295 18 [l0, l1, l2, l3, l4] [vR z0, vR z1] h Q ↔ Rn r 295 19 [l0, l1, l2, l3, l4] [vR z0, vR z1, vR z0] h Q := Rn_nx pg295 rfl rfl
theorem sJ21_rotateRight_19 (hk : hK h a1 = 13) : Rn r 295 19 [l0, l1, l2, l3, l4] [vR z0, vR (some a1), vR z2] h Q ↔ Rn r 295 22 [l0, l1, l2, l3, l4] [vR z2] (putR h a1 5 z0) Q := Rn_nx pg295 rfl ((if_pos ⟨(hk ▸ Nat.le_refl _), (hk ▸ Nat.le_refl _)⟩).trans rfl)
theorem sJ21_rotateRight_22 : Rn r 295 22 [l0, l1, l2, l3, l4] [vR z0] h Q ↔ Rn r 295 23 [l0, l1, l2, l3, l4] [vR z0, vR z0] h Q := Rn_nx pg295 rfl rfl
theorem sJ21_rotateRight_23 : Rn r 295 23 [l0, l1, l2, l3, l4] [vR z0, vR z1] h Q ↔ Rn r 295 25 [l0, l1, l2, l3, some (vR z0)] [vR z1] h Q := Rn_nx pg295 rfl rfl
theorem sJ21_rotateRight_25 : Rn r 295 25 [l0, l1, l2, l3, l4] [vR z0] h Q ↔ if z0 = none then Rn r 295 34 [l0, l1, l2, l3, l4] [] h Q else Rn r 295 28 [l0, l1, l2, l3, l4] [] h Q := Rn_if pg295 rfl rfl rfl
theorem sJ21_rotateRight_28 : Rn r 295 28 [l0, l1, l2, l3, some (vR z)] [] h Q ↔ Rn r 295 30 [l0, l1, l2, l3, some (vR z)] [vR z] h Q := Rn_nx pg295 rfl rfl
theorem sJ21_rotateRight_30 : Rn r 295 30 [l0, some (vR z), l2, l3, l4] [vR z0] h Q ↔ Rn r 295 31 [l0, some (vR z), l2, l3, l4] [vR z, vR z0] h Q := Rn_nx pg295 rfl rfl
theorem sJ21_rotateRight_31 (hk : hK h a1 = 13) : Rn r 295 31 [l0, l1, l2, l3, l4] [vR z0, vR (some a1)] h Q ↔ Rn r 295 34 [l0, l1, l2, l3, l4] [] (putR h a1 4 z0) Q := Rn_nx pg295 rfl ((if_pos ⟨(hk ▸ Nat.le_refl _), (hk ▸ Nat.le_refl _)⟩).trans rfl)
theorem sJ21_rotateRight_34 : Rn r 295 34 [l0, l1, some (vR z), l3, l4] [] h Q ↔ Rn r 295 35 [l0, l1, some (vR z), l3, l4] [vR z] h Q := Rn_nx pg295 rfl rfl
theorem sJ21_rotateRight_35 : Rn r 295 35 [l0, some (vR z), l2, l3, l4] [vR z0] h Q ↔ Rn r 295 36 [l0, some (vR z), l2, l3, l4] [vR z, vR z0] h Q := Rn_nx pg295 rfl rfl
theorem sJ21_rotateRight_36 (hk : hK h a0 = 13) : Rn r 295 36 [l0, l1, l2, l3, l4] [vR (some a0), vR z1] h Q ↔ Rn r 295 39 [l0, l1, l2, l3, l4] [vR (hR h a0 4), vR z1] h Q := Rn_nx pg295 rfl (if_pos ⟨(hk ▸ Nat.le_refl _), (hk ▸ Nat.le_refl _)⟩)
theorem sJ21_rotateRight_39 : Rn r 295 39 [l0, l1, l2, l3, l4] [vR z0, vR z1] h Q ↔ Rn r 295 40 [l0, l1, l2, l3, l4] [vR z0, vR z1, vR z0] h Q := Rn_nx pg295 rfl rfl
theorem sJ21_rotateRight_40 (hk : hK h a1 = 13) : Rn r 295 40 [l0, l1, l2, l3, l4] [vR z0, vR (some a1), vR z2] h Q ↔ Rn r 295 43 [l0, l1, l2, l3, l4] [vR z2] (putR h a1 4 z0) Q := Rn_nx pg295 rfl ((if_pos ⟨(hk ▸ Nat.le_refl _), (hk ▸ Nat.le_refl _)⟩).trans rfl)
theorem sJ21_rotateRight_43 : Rn r 295 43 [l0, l1, l2, l3, l4] [vR z0] h Q ↔ Rn r 295 44 [l0, l1, l2, l3, l4] [vR z0, vR z0] h Q := Rn_nx pg295 rfl rfl
theorem sJ21_rotateRight_44 : Rn r 295 44 [l0, l1, l2, l3, l4] [vR z0, vR z1] h Q ↔ Rn r 295 45 [l0, l1, l2, some (vR z0), l4] [vR z1] h Q := Rn_nx pg295 rfl rfl
theorem sJ21_rotateRight_45 : Rn r 295 45 [l0, l1, l2, l3, l4] [vR z0] h Q ↔ if z0 ≠ none then Rn r 295 58 [l0, l1, l2, l3, l4] [] h Q else Rn r 295 48 [l0, l1, l2, l3, l4] [] h Q := Rn_if pg295 rfl rfl rfl
theorem sJ21_rotateRight_48 : Rn r 295 48 [l0, l1, some (vR z), l3, l4] [] h Q ↔ Rn r 295 49 [l0, l1, some (vR z), l3, l4] [vR z] h Q := Rn_nx pg295 rfl rfl
theorem sJ21_rotateRight_49 : Rn r 295 49 [l0, l1, l2, l3, l4] [vR z0] h Q ↔ Rn r 295 50 [l0, l1, l2, l3, l4] [vR z0, vR z0] h Q := Rn_nx pg295 rfl rfl
theorem sJ21_rotateRight_50 : Rn r 295 50 [l0, l1, l2, l3, l4] [vR z0, vR z1] h Q ↔ Rn r 295 51 [some (vR z0), l1, l2, l3, l4] [vR z1] h Q := Rn_nx pg295 rfl rfl
theorem sJ21_rotateRight_51 : Rn r 295 51 [l0, l1, l2, l3, l4] [vR z0] h Q ↔ Rn r 295 52 [l0, l1, l2, l3, l4] [vI 0, vR z0] h Q := Rn_nx pg295 rfl rfl
theorem sJ21_rotateRight_52 (hk : hK h a1 = 13) (hf : am_fit 4 x0 = true) : Rn r 295 52 [l0, l1, l2, l3, l4] [vI x0, vR (some a1)] h Q ↔ Rn r 295 55 [l0, l1, l2, l3, l4] [] (putI h a1 8 x0) Q := Rn_nx pg295 rfl ((if_pos ⟨(hk ▸ Nat.le_refl _), (hk ▸ Nat.le_refl _)⟩).trans (if_pos hf))
theorem sJ21_rotateRight_55 : Rn r 295 55 [l0, l1, l2, l3, l4] [] h Q ↔ Rn r 295 79 [l0, l1, l2, l3, l4] [] h Q := Rn_nx pg295 rfl rfl
theorem sJ21_rotateRight_58 : Rn r 295 58 [l0, l1, l2, some (vR z), l4] [] h Q ↔ Rn r 295 59 [l0, l1, l2, some (vR z), l4] [vR z] h Q := Rn_nx pg295 rfl rfl
theorem sJ21_rotateRight_59 (hk : hK h a0 = 13) : Rn r 295 59 [l0, l1, l2, l3, l4] [vR (some a0)] h Q ↔ Rn r 295 62 [l0, l1, l2, l3, l4] [vR (hR h a0 6)] h Q := Rn_nx pg295 rfl (if_pos ⟨(hk ▸ Nat.le_refl _), (hk ▸ Nat.le_refl _)⟩)
theorem sJ21_rotateRight_62 : Rn r 295 62 [l0, some (vR z), l2, l3, l4] [vR z0] h Q ↔ Rn r 295 63 [l0, some (vR z), l2, l3, l4] [vR z, vR z0] h Q := Rn_nx pg295 rfl rfl
theorem sJ21_rotateRight_63 : Rn r 295 63 [l0, l1, l2, l3, l4] [vR z0, vR z1] h Q ↔ if z1 ≠ z0 then Rn r 295 74 [l0, l1, l2, l3, l4] [] h Q else Rn r 295 66 [l0, l1, l2, l3, l4] [] h Q := Rn_if pg295 rfl rfl rfl
theorem sJ21_rotateRight_66 : Rn r 295 66 [l0, l1, l2, some (vR z), l4] [] h Q ↔ Rn r 295 67 [l0, l1, l2, some (vR z), l4] [vR z] h Q := Rn_nx pg295 rfl rfl
theorem sJ21_rotateRight_67 : Rn r 295 67 [l0, l1, some (vR z), l3, l4] [vR z0] h Q ↔ Rn r 295 68 [l0, l1, some (vR z), l3, l4] [vR z, vR z0] h Q := Rn_nx pg295 rfl rfl
theorem sJ21_rotateRight_68 (hk : hK h a1 = 13) : Rn r 295 68 [l0, l1, l2, l3, l4] [vR z0, vR (some a1)] h Q ↔ Rn r 295 71 [l0, l1, l2, l3, l4] [] (putR h a1 6 z0) Q := Rn_nx pg295 rfl ((if_pos ⟨(hk ▸ Nat.le_refl _), (hk ▸ Nat.le_refl _)⟩).trans rfl)
theorem sJ21_rotateRight_71 : Rn r 295 71 [l0, l1, l2, l3, l4] [] h Q ↔ Rn r 295 79 [l0, l1, l2, l3, l4] [] h Q := Rn_nx pg295 rfl rfl
theorem sJ21_rotateRight_74 : Rn r 295 74 [l0, l1, l2, some (vR z), l4] [] h Q ↔ Rn r 295 75 [l0, l1, l2, some (vR z), l4] [vR z] h Q := Rn_nx pg295 rfl rfl
theorem sJ21_rotateRight_75 : Rn r 295 75 [l0, l1, some (vR z), l3, l4] [vR z0] h Q ↔ Rn r 295 76 [l0, l1, some (vR z), l3, l4] [vR z, vR z0] h Q := Rn_nx pg295 rfl rfl
theorem sJ21_rotateRight_76 (hk : hK h a1 = 13) : Rn r 295 76 [l0, l1, l2, l3, l4] [vR z0, vR (some a1)] h Q ↔ Rn r 295 79 [l0, l1, l2, l3, l4] [] (putR h a1 5 z0) Q := Rn_nx pg295 rfl ((if_pos ⟨(hk ▸ Nat.le_refl _), (hk ▸ Nat.le_refl _)⟩).trans rfl)
theorem sJ21_rotateRight_79 : Rn r 295 79 [l0, l1, some (vR z), l3, l4] [] h Q ↔ Rn r 295 80 [l0, l1, some (vR z), l3, l4] [vR z] h Q := Rn_nx pg295 rfl rfl
theorem sJ21_rotateRight_80 : Rn r 295 80 [l0, some (vR z), l2, l3, l4] [vR z0] h Q ↔ Rn r 295 81 [l0, some (vR z), l2, l3, l4] [vR z, vR z0] h Q := Rn_nx pg295 rfl rfl
theorem sJ21_rotateRight_81 (hk : hK h a1 = 13) : Rn r 295 81 [l0, l1, l2, l3, l4] [vR z0, vR (some a1)] h Q ↔ Rn r 295 84 [l0, l1, l2, l3, l4] [] (putR h a1 6 z0) Q := Rn_nx pg295 rfl ((if_pos ⟨(hk ▸ Nat.le_refl _), (hk ▸ Nat.le_refl _)⟩).trans rfl)
theorem sJ21_rotateRight_84 : Rn r 295 84 [l0, some (vR z), l2, l3, l4] [] h Q ↔ Rn r 295 85 [l0, some (vR z), l2, l3, l4] [vR z] h Q := Rn_nx pg295 rfl rfl
theorem sJ21_rotateRight_85 : Rn r 295 85 [l0, l1, some (vR z), l3, l4] [vR z0] h Q ↔ Rn r 295 86 [l0, l1, some (vR z), l3, l4] [vR z, vR z0] h Q := Rn_nx pg295 rfl rfl
theorem sJ21_rotateRight_86 (hk : hK h a1 = 13) : Rn r 295 86 [l0, l1, l2, l3, l4] [vR z0, vR (some a1)] h Q ↔ Rn r 295 89 [l0, l1, l2, l3, l4] [] (putR h a1 4 z0) Q := Rn_nx pg295 rfl ((if_pos ⟨(hk ▸ Nat.le_refl _), (hk ▸ Nat.le_refl _)⟩).trans rfl)
theorem sJ21_rotateRight_89 : Rn r 295 89 [some (vR z), l1, l2, l3, l4] [] h Q ↔ Rn r 295 90 [some (vR z), l1, l2, l3, l4] [vR z] h Q := Rn_nx pg295 rfl rfl
theorem sJ21_rotateRight_90 : Rn r 295 90 [l0, l1, l2, l3, l4] [vR z0] h Q ↔ Q (Sum.inl (some (vR z0))) h := Rn_end pg295 rfl rfl
/-! 296 java/lang/AbstractStringBuilder.putStringAt(ILjava/lang/String;)V -/
theorem eJ22_putStringAt : Cl r 296 [vR z0, vI x1, vR z2] h Q ↔ Rn r 296 0 [some (vR z0), some (vI x1), some (vR z2)] [] h Q := Cl_in pg296 rfl
theorem sJ22_putStringAt_0 : Rn r 296 0 [some (vR z), l1, l2] [] h Q ↔ Rn r 296 1 [some (vR z), l1, l2] [vR z] h Q := Rn_nx pg296 rfl rfl
theorem sJ22_putStringAt_1 : Rn r 296 1 [l0, l1, some (vR z)] [vR z0] h Q ↔ Rn r 296 2 [l0, l1, some (vR z)] [vR z, vR z0] h Q := Rn_nx pg296 rfl rfl
theorem sJ22_putStringAt_2 (hk : hK h a1 = 16) : Rn r 296 2 [l0, l1, l2] [vR z0, vR (some a1)] h Q ↔ Cl r 306 [vR (some a1), vR z0] h (Kt r 296 5 [l0, l1, l2] [] Q) := Rn_call pg296 rfl (by simp only [am_exec, am_inv, am_pop, am_lk, hk]; rfl) pg306 rfl rfl rfl
theorem sJ22_putStringAt_5 : Rn r 296 5 [l0, l1, some (vR z)] [] h Q ↔ Rn r 296 6 [l0, l1, some (vR z)] [vR z] h Q := Rn_nx pg296 rfl rfl
theorem sJ22_putStringAt_6 : Rn r 296 6 [some (vR z), l1, l2] [vR z0] h Q ↔ Rn r 296 7 [some (vR z), l1, l2] [vR z, vR z0] h Q := Rn_nx pg296 rfl rfl
theorem sJ22_putStringAt_7 (hk : hK h a0 = 16) : Rn r 296 7 [l0, l1, l2] [vR (some a0), vR z1] h Q ↔ Rn r 296 10 [l0, l1, l2] [vR (hR h a0 0), vR z1] h Q := Rn_nx pg296 rfl (if_pos ⟨(hk ▸ Nat.le_refl _), (hk ▸ Nat.le_refl _)⟩)
theorem sJ22_putStringAt_10 : Rn r 296 10 [l0, some (vI x), l2] [vR z0, vR z1] h Q ↔ Rn r 296 11 [l0, some (vI x), l2] [vI x, vR z0, vR z1] h Q := Rn_nx pg296 rfl rfl
theorem sJ22_putStringAt_11 : Rn r 296 11 [some (vR z), l1, l2] [vI x0, vR z1, vR z2] h Q ↔ Rn r 296 12 [some (vR z), l1, l2] [vR z, vI x0, vR z1, vR z2] h Q := Rn_nx pg296 rfl rfl
theorem sJ22_putStringAt_12 (hk : hK h a0 = 16) : Rn r 296 12 [l0, l1, l2] [vR (some a0), vI x1, vR z2, vR z3] h Q ↔ Rn r 296 15 [l0, l1, l2] [vI (hI h a0 1), vI x1, vR z2, vR z3] h Q := Rn_nx pg296 rfl (if_pos ⟨(hk ▸ Nat.le_refl _), (hk ▸ Nat.le_refl _)⟩)
theorem sJ22_putStringAt_15 (hk : 10 ≤ hK h a3) (hk2 : hK h a3 ≤ 11) : Rn r 296 15 [l0, l1, l2] [vI x0, vI x1, vR z2, vR (some a3)] h Q ↔ Cl r 307 [vR (some a3), vR z2, vI x1, vI x0] h (Kt r 296 18 [l0, l1, l2] [] Q) := Rn_call pg296 rfl (by rcases am_rng2 hk hk2 with q | q <;> simp only [am_exec, am_inv, am_pop, am_lk, q] <;> rfl) pg307 rfl rfl rfl
theorem sJ22_putStringAt_18 : Rn r 296 18 [l0, l1, l2] [] h Q ↔ Q (Sum.inl none) h := Rn_end pg296 rfl rfl
/-! 297 java/lang/StringLatin1.indexOf([B[B)I -/
theorem eJ14_indexOf_2 : Cl r 297 [vR z0, vR z1] h Q ↔ Rn r 297 0 [some (vR z0), some (vR z1)] [] h Q := Cl_in pg297 rfl
theorem sJ14_indexOf_2_0 : Rn r 297 0 [l0, some (vR z)] [] h Q ↔ Rn r 297 1 [l0, some (vR z)] [vR z] h Q := Rn_nx pg297 rfl rfl
theorem sJ14_indexOf_2_1 (hk : 40 ≤ hK h a0) (hk2 : hK h a0 ≤ 49) : Rn r 297 1 [l0, l1] [vR (some a0)] h Q ↔ Rn r 297 2 [l0, l1] [vI (nI (hL h a0))] h Q := Rn_nx pg297 rfl (if_pos ⟨hk, hk2⟩)
theorem sJ14_indexOf_2_2 : Rn r 297 2 [l0, l1] [vI x0] h Q ↔ if x0 ≠ 0 then Rn r 297 7 [l0, l1] [] h Q else Rn r 297 5 [l0, l1] [] h Q := Rn_if pg297 rfl rfl rfl
theorem sJ14_indexOf_2_5 : Rn r 297 5 [l0, l1] [] h Q ↔ Rn r 297 6 [l0, l1] [vI 0] h Q := Rn_nx pg297 rfl rfl
theorem sJ14_indexOf_2_6 : Rn r 297 6 [l0, l1] [vI x0] h Q ↔ Q (Sum.inl (some (vI x0))) h := Rn_end pg297 rfl rfl
theorem sJ14_indexOf_2_7 : Rn r 297 7 [some (vR z), l1] [] h Q ↔ Rn r 297 8 [some (vR z), l1] [vR z] h Q := Rn_nx pg297 rfl rfl
theorem sJ14_indexOf_2_8 (hk : 40 ≤ hK h a0) (hk2 : hK h a0 ≤ 49) : Rn r 297 8 [l0, l1] [vR (some a0)] h Q ↔ Rn r 297 9 [l0, l1] [vI (nI (hL h a0))] h Q := Rn_nx pg297 rfl (if_pos ⟨hk, hk2⟩)
theorem sJ14_indexOf_2_9 : Rn r 297 9 [l0, l1] [vI x0] h Q ↔ if x0 ≠ 0 then Rn r 297 14 [l0, l1] [] h Q else Rn r 297 12 [l0, l1] [] h Q := Rn_if pg297 rfl rfl rfl
theorem sJ14_indexOf_2_12 : Rn r 297 12 [l0, l1] [] h Q ↔ Rn r 297 13 [l0, l1] [vI (-1)] h Q := Rn_nx pg297 rfl rfl
theorem sJ14_indexOf_2_13 : Rn r 297 13 [l0, l1] [vI x0] h Q ↔ Q (Sum.inl (some (vI x0))) h := Rn_end pg297 rfl rfl
theorem sJ14_indexOf_2_14 : Rn r 297 14 [some (vR z), l1] [] h Q ↔ Rn r 297 15 [some (vR z), l1] [vR z] h Q := Rn_nx pg297 rfl rfl
theorem sJ14_indexOf_2_15 : Rn r 297 15 [some (vR z), l1] [vR z0] h Q ↔ Rn r 297 16 [some (vR z), l1] [vR z, vR z0] h Q := Rn_nx pg297 rfl rfl
theorem sJ14_indexOf_2_16 (hk : 40 ≤ hK h a0) (hk2 : hK h a0 ≤ 49) : Rn r 297 16 [l0, l1] [vR (some a0), vR z1] h Q ↔ Rn r 297 17 [l0, l1] [vI (nI (hL h a0)), vR z1] h Q := Rn_nx pg297 rfl (if_pos ⟨hk, hk2⟩)
theorem sJ14_indexOf_2_17 : Rn r 297 17 [l0, some (vR z)] [vI x0, vR z1] h Q ↔ Rn r 297 18 [l0, some (vR z)] [vR z, vI x0, vR z1] h Q := Rn_nx pg297 rfl rfl
theorem sJ14_indexOf_2_18 : Rn r 297 18 [l0, some (vR z)] [vR z0, vI x1, vR z2] h Q ↔ Rn r 297 19 [l0, some (vR z)] [vR z, vR z0, vI x1, vR z2] h Q := Rn_nx pg297 rfl rfl
theorem sJ14_indexOf_2_19 (hk : 40 ≤ hK h a0) (hk2 : hK h a0 ≤ 49) : Rn r 297 19 [l0, l1] [vR (some a0), vR z1, vI x2, vR z3] h Q ↔ Rn r 297 20 [l0, l1] [vI (nI (hL h a0)), vR z1, vI x2, vR z3] h Q := Rn_nx pg297 rfl (if_pos ⟨hk, hk2⟩)
theorem sJ14_indexOf_2_20 : Rn r 297 20 [l0, l1] [vI x0, vR z1, vI x2, vR z3] h Q ↔ Rn r 297 21 [l0, l1] [vI 0, vI x0, vR z1, vI x2, vR z3] h Q := Rn_nx pg297 rfl rfl
theorem sJ14_indexOf_2_21 : Rn r 297 21 [l0, l1] [vI x0, vI x1, vR z2, vI x3, vR z4] h Q ↔ Cl r 308 [vR z4, vI x3, vR z2, vI x1, vI x0] h (Kt r 297 24 [l0, l1] [] Q) := Rn_call pg297 rfl rfl pg308 rfl rfl rfl
theorem sJ14_indexOf_2_24 : Rn r 297 24 [l0, l1] [vI x0] h Q ↔ Q (Sum.inl (some (vI x0))) h := Rn_end pg297 rfl rfl
/-! 298 ThrowRules$Statement.<init>()V -/
theorem eX12_init : Cl r 298 [vR z0] h Q ↔ Rn r 298 0 [some (vR z0)] [] h Q := Cl_in pg298 rfl
theorem sX12_init_0 : Rn r 298 0 [some (vR z)] [] h Q ↔ Rn r 298 1 [some (vR z)] [vR z] h Q := Rn_nx pg298 rfl rfl
theorem sX12_init_1 : Rn r 298 1 [l0] [vR (some a0)] h Q ↔ Rn r 298 4 [l0] [] h Q := Rn_nx pg298 rfl rfl
theorem sX12_init_4 : Rn r 298 4 [l0] [] h Q ↔ Q (Sum.inl none) h := Rn_end pg298 rfl rfl
/-! 299 java/lang/Integer.<init>(I)V -/
theorem eJ12_init : Cl r 299 [vR z0, vI x1] h Q ↔ Rn r 299 0 [some (vR z0), some (vI x1)] [] h Q := Cl_in pg299 rfl
theorem sJ12_init_0 : Rn r 299 0 [some (vR z), l1] [] h Q ↔ Rn r 299 1 [some (vR z), l1] [vR z] h Q := Rn_nx pg299 rfl rfl
theorem sJ12_init_1 (hk : 0 < hK h a0) (hk2 : hK h a0 < 40) : Rn r 299 1 [l0, l1] [vR (some a0)] h Q ↔ Cl r 309 [vR (some a0)] h (Kt r 299 4 [l0, l1] [] Q) := Rn_call pg299 rfl (if_pos ⟨hk, hk2⟩) pg309 rfl rfl rfl
theorem sJ12_init_4 : Rn r 299 4 [some (vR z), l1] [] h Q ↔ Rn r 299 5 [some (vR z), l1] [vR z] h Q := Rn_nx pg299 rfl rfl
theorem sJ12_init_5 : Rn r 299 5 [l0, some (vI x)] [vR z0] h Q ↔ Rn r 299 6 [l0, some (vI x)] [vI x, vR z0] h Q := Rn_nx pg299 rfl rfl
theorem sJ12_init_6 (hk : hK h a1 = 8) : Rn r 299 6 [l0, l1] [vI x0, vR (some a1)] h Q ↔ Rn r 299 9 [l0, l1] [] (putI h a1 0 x0) Q := Rn_nx pg299 rfl ((if_pos ⟨(hk ▸ Nat.le_refl _), (hk ▸ Nat.le_refl _)⟩).trans rfl)
theorem sJ12_init_9 : Rn r 299 9 [l0, l1] [] h Q ↔ Q (Sum.inl none) h := Rn_end pg299 rfl rfl
/-! 300 ThrowRules$Catch.<init>(LThrowRules$Try;)V -/
theorem eX22_init : Cl r 300 [vR z0, vR z1] h Q ↔ Rn r 300 0 [some (vR z0), some (vR z1)] [] h Q := Cl_in pg300 rfl
theorem sX22_init_0 : Rn r 300 0 [some (vR z), l1] [] h Q ↔ Rn r 300 1 [some (vR z), l1] [vR z] h Q := Rn_nx pg300 rfl rfl
theorem sX22_init_1 : Rn r 300 1 [l0, l1] [vR (some a0)] h Q ↔ Rn r 300 4 [l0, l1] [] h Q := Rn_nx pg300 rfl rfl
theorem sX22_init_4 : Rn r 300 4 [some (vR z), l1] [] h Q ↔ Rn r 300 5 [some (vR z), l1] [vR z] h Q := Rn_nx pg300 rfl rfl
theorem sX22_init_5 : Rn r 300 5 [l0, l1] [vR z0] h Q ↔ Rn r 300 8 [l0, l1] [vR (some (hN h)), vR z0] (newC h 4 3) Q := Rn_nx pg300 rfl rfl
theorem sX22_init_8 : Rn r 300 8 [l0, l1] [vR z0, vR z1] h Q ↔ Rn r 300 9 [l0, l1] [vR z0, vR z0, vR z1] h Q := Rn_nx pg300 rfl rfl
theorem sX22_init_9 : Rn r 300 9 [l0, l1] [vR z0, vR z1, vR z2] h Q ↔ Rn r 300 10 [l0, l1] [vI 1, vR z0, vR z1, vR z2] h Q := Rn_nx pg300 rfl rfl
theorem sX22_init_10 (hk : 0 < hK h a1) (hk2 : hK h a1 < 40) : Rn r 300 10 [l0, l1] [vI x0, vR (some a1), vR z2, vR z3] h Q ↔ Cl r 172 [vR (some a1), vI x0] h (Kt r 300 13 [l0, l1] [vR z2, vR z3] Q) := Rn_call pg300 rfl (if_pos ⟨hk, hk2⟩) pg172 rfl rfl rfl
theorem sX22_init_13 (hk : hK h a1 = 22) : Rn r 300 13 [l0, l1] [vR z0, vR (some a1)] h Q ↔ Rn r 300 16 [l0, l1] [] (putR h a1 1 z0) Q := Rn_nx pg300 rfl ((if_pos ⟨(hk ▸ Nat.le_refl _), (hk ▸ Nat.le_refl _)⟩).trans rfl)
theorem sX22_init_16 : Rn r 300 16 [some (vR z), l1] [] h Q ↔ Rn r 300 17 [some (vR z), l1] [vR z] h Q := Rn_nx pg300 rfl rfl
theorem sX22_init_17 : Rn r 300 17 [l0, some (vR z)] [vR z0] h Q ↔ Rn r 300 18 [l0, some (vR z)] [vR z, vR z0] h Q := Rn_nx pg300 rfl rfl
theorem sX22_init_18 (hk : hK h a1 = 22) : Rn r 300 18 [l0, l1] [vR z0, vR (some a1)] h Q ↔ Rn r 300 21 [l0, l1] [] (putR h a1 0 z0) Q := Rn_nx pg300 rfl ((if_pos ⟨(hk ▸ Nat.le_refl _), (hk ▸ Nat.le_refl _)⟩).trans rfl)
theorem sX22_init_21 : Rn r 300 21 [l0, l1] [] h Q ↔ Q (Sum.inl none) h := Rn_end pg300 rfl rfl
/-! 301 java/lang/Integer.numberOfTrailingZeros(I)I -/
theorem eJ12_numberOfTrailingZeros : Cl r 301 [vI x0] h Q ↔ Rn r 301 0 [some (vI x0), none] [] h Q := Cl_in pg301 rfl
theorem sJ12_numberOfTrailingZeros_0 : Rn r 301 0 [some (vI x), l1] [] h Q ↔ Rn r 301 1 [some (vI x), l1] [vI x] h Q := Rn_nx pg301 rfl rfl
theorem sJ12_numberOfTrailingZeros_1 : Rn r 301 1 [l0, l1] [vI x0] h Q ↔ Rn r 301 2 [l0, l1] [vI (-1), vI x0] h Q := Rn_nx pg301 rfl rfl
theorem sJ12_numberOfTrailingZeros_2 : Rn r 301 2 [l0, l1] [vI x0, vI x1] h Q ↔ Rn r 301 3 [l0, l1] [vI (x1 ^^^ x0)] h Q := Rn_nx pg301 rfl rfl
theorem sJ12_numberOfTrailingZeros_3 : Rn r 301 3 [some (vI x), l1] [vI x0] h Q ↔ Rn r 301 4 [some (vI x), l1] [vI x, vI x0] h Q := Rn_nx pg301 rfl rfl
theorem sJ12_numberOfTrailingZeros_4 : Rn r 301 4 [l0, l1] [vI x0, vI x1] h Q ↔ Rn r 301 5 [l0, l1] [vI 1, vI x0, vI x1] h Q := Rn_nx pg301 rfl rfl
theorem sJ12_numberOfTrailingZeros_5 : Rn r 301 5 [l0, l1] [vI x0, vI x1, vI x2] h Q ↔ Rn r 301 6 [l0, l1] [vI (x1 - x0), vI x2] h Q := Rn_nx pg301 rfl rfl
theorem sJ12_numberOfTrailingZeros_6 : Rn r 301 6 [l0, l1] [vI x0, vI x1] h Q ↔ Rn r 301 7 [l0, l1] [vI (x1 &&& x0)] h Q := Rn_nx pg301 rfl rfl
theorem sJ12_numberOfTrailingZeros_7 : Rn r 301 7 [l0, l1] [vI x0] h Q ↔ Rn r 301 8 [some (vI x0), l1] [] h Q := Rn_nx pg301 rfl rfl
theorem sJ12_numberOfTrailingZeros_8 : Rn r 301 8 [some (vI x), l1] [] h Q ↔ Rn r 301 9 [some (vI x), l1] [vI x] h Q := Rn_nx pg301 rfl rfl
theorem sJ12_numberOfTrailingZeros_9 : Rn r 301 9 [l0, l1] [vI x0] h Q ↔ if 0 < x0 then Rn r 301 17 [l0, l1] [] h Q else Rn r 301 12 [l0, l1] [] h Q := Rn_if pg301 rfl rfl rfl
theorem sJ12_numberOfTrailingZeros_12 : Rn r 301 12 [some (vI x), l1] [] h Q ↔ Rn r 301 13 [some (vI x), l1] [vI x] h Q := Rn_nx pg301 rfl rfl
theorem sJ12_numberOfTrailingZeros_13 : Rn r 301 13 [l0, l1] [vI x0] h Q ↔ Rn r 301 15 [l0, l1] [vI 32, vI x0] h Q := Rn_nx pg301 rfl rfl
theorem sJ12_numberOfTrailingZeros_15 : Rn r 301 15 [l0, l1] [vI x0, vI x1] h Q ↔ Rn r 301 16 [l0, l1] [vI (x1 &&& x0)] h Q := Rn_nx pg301 rfl rfl
theorem sJ12_numberOfTrailingZeros_16 : Rn r 301 16 [l0, l1] [vI x0] h Q ↔ Q (Sum.inl (some (vI x0))) h := Rn_end pg301 rfl rfl
theorem sJ12_numberOfTrailingZeros_17 : Rn r 301 17 [l0, l1] [] h Q ↔ Rn r 301 18 [l0, l1] [vI 1] h Q := Rn_nx pg301 rfl rfl
theorem sJ12_numberOfTrailingZeros_18 : Rn r 301 18 [l0, l1] [vI x0] h Q ↔ Rn r 301 19 [l0, some (vI x0)] [] h Q := Rn_nx pg301 rfl rfl
theorem sJ12_numberOfTrailingZeros_19 : Rn r 301 19 [some (vI x), l1] [] h Q ↔ Rn r 301 20 [some (vI x), l1] [vI x] h Q := Rn_nx pg301 rfl rfl
theorem sJ12_numberOfTrailingZeros_20 : Rn r 301 20 [l0, l1] [vI x0] h Q ↔ Rn r 301 23 [l0, l1] [vI 65536, vI x0] h Q := Rn_nx pg301 rfl rfl
theorem sJ12_numberOfTrailingZeros_23 : Rn r 301 23 [l0, l1] [vI x0, vI x1] h Q ↔ if x1 ≤ x0 then Rn r 301 34 [l0, l1] [] h Q else Rn r 301 26 [l0, l1] [] h Q := Rn_if pg301 rfl rfl rfl
theorem sJ12_numberOfTrailingZeros_26 : Rn r 301 26 [l0, some (vI x)] [] h Q ↔ Rn r 301 29 [l0, some (vI (x + 16))] [] h Q := Rn_nx pg301 rfl rfl
theorem sJ12_numberOfTrailingZeros_29 : Rn r 301 29 [some (vI x), l1] [] h Q ↔ Rn r 301 30 [some (vI x), l1] [vI x] h Q := Rn_nx pg301 rfl rfl
theorem sJ12_numberOfTrailingZeros_30 : Rn r 301 30 [l0, l1] [vI x0] h Q ↔ Rn r 301 32 [l0, l1] [vI 16, vI x0] h Q := Rn_nx pg301 rfl rfl
theorem sJ12_numberOfTrailingZeros_32 : Rn r 301 32 [l0, l1] [vI x0, vI x1] h Q ↔ Rn r 301 33 [l0, l1] [vI ((x1.toUInt32 >>> (x0.toUInt32 &&& Int32.toUInt32 31)).toInt32)] h Q := Rn_nx pg301 rfl rfl
theorem sJ12_numberOfTrailingZeros_33 : Rn r 301 33 [l0, l1] [vI x0] h Q ↔ Rn r 301 34 [some (vI x0), l1] [] h Q := Rn_nx pg301 rfl rfl
theorem sJ12_numberOfTrailingZeros_34 : Rn r 301 34 [some (vI x), l1] [] h Q ↔ Rn r 301 35 [some (vI x), l1] [vI x] h Q := Rn_nx pg301 rfl rfl
theorem sJ12_numberOfTrailingZeros_35 : Rn r 301 35 [l0, l1] [vI x0] h Q ↔ Rn r 301 38 [l0, l1] [vI 256, vI x0] h Q := Rn_nx pg301 rfl rfl
theorem sJ12_numberOfTrailingZeros_38 : Rn r 301 38 [l0, l1] [vI x0, vI x1] h Q ↔ if x1 ≤ x0 then Rn r 301 49 [l0, l1] [] h Q else Rn r 301 41 [l0, l1] [] h Q := Rn_if pg301 rfl rfl rfl
theorem sJ12_numberOfTrailingZeros_41 : Rn r 301 41 [l0, some (vI x)] [] h Q ↔ Rn r 301 44 [l0, some (vI (x + 8))] [] h Q := Rn_nx pg301 rfl rfl
theorem sJ12_numberOfTrailingZeros_44 : Rn r 301 44 [some (vI x), l1] [] h Q ↔ Rn r 301 45 [some (vI x), l1] [vI x] h Q := Rn_nx pg301 rfl rfl
theorem sJ12_numberOfTrailingZeros_45 : Rn r 301 45 [l0, l1] [vI x0] h Q ↔ Rn r 301 47 [l0, l1] [vI 8, vI x0] h Q := Rn_nx pg301 rfl rfl
theorem sJ12_numberOfTrailingZeros_47 : Rn r 301 47 [l0, l1] [vI x0, vI x1] h Q ↔ Rn r 301 48 [l0, l1] [vI ((x1.toUInt32 >>> (x0.toUInt32 &&& Int32.toUInt32 31)).toInt32)] h Q := Rn_nx pg301 rfl rfl
theorem sJ12_numberOfTrailingZeros_48 : Rn r 301 48 [l0, l1] [vI x0] h Q ↔ Rn r 301 49 [some (vI x0), l1] [] h Q := Rn_nx pg301 rfl rfl
theorem sJ12_numberOfTrailingZeros_49 : Rn r 301 49 [some (vI x), l1] [] h Q ↔ Rn r 301 50 [some (vI x), l1] [vI x] h Q := Rn_nx pg301 rfl rfl
theorem sJ12_numberOfTrailingZeros_50 : Rn r 301 50 [l0, l1] [vI x0] h Q ↔ Rn r 301 52 [l0, l1] [vI 16, vI x0] h Q := Rn_nx pg301 rfl rfl
theorem sJ12_numberOfTrailingZeros_52 : Rn r 301 52 [l0, l1] [vI x0, vI x1] h Q ↔ if x1 ≤ x0 then Rn r 301 62 [l0, l1] [] h Q else Rn r 301 55 [l0, l1] [] h Q := Rn_if pg301 rfl rfl rfl
theorem sJ12_numberOfTrailingZeros_55 : Rn r 301 55 [l0, some (vI x)] [] h Q ↔ Rn r 301 58 [l0, some (vI (x + 4))] [] h Q := Rn_nx pg301 rfl rfl
theorem sJ12_numberOfTrailingZeros_58 : Rn r 301 58 [some (vI x), l1] [] h Q ↔ Rn r 301 59 [some (vI x), l1] [vI x] h Q := Rn_nx pg301 rfl rfl
theorem sJ12_numberOfTrailingZeros_59 : Rn r 301 59 [l0, l1] [vI x0] h Q ↔ Rn r 301 60 [l0, l1] [vI 4, vI x0] h Q := Rn_nx pg301 rfl rfl
theorem sJ12_numberOfTrailingZeros_60 : Rn r 301 60 [l0, l1] [vI x0, vI x1] h Q ↔ Rn r 301 61 [l0, l1] [vI ((x1.toUInt32 >>> (x0.toUInt32 &&& Int32.toUInt32 31)).toInt32)] h Q := Rn_nx pg301 rfl rfl
theorem sJ12_numberOfTrailingZeros_61 : Rn r 301 61 [l0, l1] [vI x0] h Q ↔ Rn r 301 62 [some (vI x0), l1] [] h Q := Rn_nx pg301 rfl rfl
theorem sJ12_numberOfTrailingZeros_62 : Rn r 301 62 [some (vI x), l1] [] h Q ↔ Rn r 301 63 [some (vI x), l1] [vI x] h Q := Rn_nx pg301 rfl rfl
theorem sJ12_numberOfTrailingZeros_63 : Rn r 301 63 [l0, l1] [vI x0] h Q ↔ Rn r 301 64 [l0, l1] [vI 4, vI x0] h Q := Rn_nx pg301 rfl rfl
theorem sJ12_numberOfTrailingZeros_64 : Rn r 301 64 [l0, l1] [vI x0, vI x1] h Q ↔ if x1 ≤ x0 then Rn r 301 74 [l0, l1] [] h Q else Rn r 301 67 [l0, l1] [] h Q := Rn_if pg301 rfl rfl rfl
theorem sJ12_numberOfTrailingZeros_67 : Rn r 301 67 [l0, some (vI x)] [] h Q ↔ Rn r 301 70 [l0, some (vI (x + 2))] [] h Q := Rn_nx pg301 rfl rfl
theorem sJ12_numberOfTrailingZeros_70 : Rn r 301 70 [some (vI x), l1] [] h Q ↔ Rn r 301 71 [some (vI x), l1] [vI x] h Q := Rn_nx pg301 rfl rfl
theorem sJ12_numberOfTrailingZeros_71 : Rn r 301 71 [l0, l1] [vI x0] h Q ↔ Rn r 301 72 [l0, l1] [vI 2, vI x0] h Q := Rn_nx pg301 rfl rfl
theorem sJ12_numberOfTrailingZeros_72 : Rn r 301 72 [l0, l1] [vI x0, vI x1] h Q ↔ Rn r 301 73 [l0, l1] [vI ((x1.toUInt32 >>> (x0.toUInt32 &&& Int32.toUInt32 31)).toInt32)] h Q := Rn_nx pg301 rfl rfl
theorem sJ12_numberOfTrailingZeros_73 : Rn r 301 73 [l0, l1] [vI x0] h Q ↔ Rn r 301 74 [some (vI x0), l1] [] h Q := Rn_nx pg301 rfl rfl
theorem sJ12_numberOfTrailingZeros_74 : Rn r 301 74 [l0, some (vI x)] [] h Q ↔ Rn r 301 75 [l0, some (vI x)] [vI x] h Q := Rn_nx pg301 rfl rfl
theorem sJ12_numberOfTrailingZeros_75 : Rn r 301 75 [some (vI x), l1] [vI x0] h Q ↔ Rn r 301 76 [some (vI x), l1] [vI x, vI x0] h Q := Rn_nx pg301 rfl rfl
theorem sJ12_numberOfTrailingZeros_76 : Rn r 301 76 [l0, l1] [vI x0, vI x1] h Q ↔ Rn r 301 77 [l0, l1] [vI 1, vI x0, vI x1] h Q := Rn_nx pg301 rfl rfl
theorem sJ12_numberOfTrailingZeros_77 : Rn r 301 77 [l0, l1] [vI x0, vI x1, vI x2] h Q ↔ Rn r 301 78 [l0, l1] [vI ((x1.toUInt32 >>> (x0.toUInt32 &&& Int32.toUInt32 31)).toInt32), vI x2] h Q := Rn_nx pg301 rfl rfl
theorem sJ12_numberOfTrailingZeros_78 : Rn r 301 78 [l0, l1] [vI x0, vI x1] h Q ↔ Rn r 301 79 [l0, l1] [vI (x1 + x0)] h Q := Rn_nx pg301 rfl rfl
theorem sJ12_numberOfTrailingZeros_79 : Rn r 301 79 [l0, l1] [vI x0] h Q ↔ Q (Sum.inl (some (vI x0))) h := Rn_end pg301 rfl rfl
/-! 302 jdk/internal/util/ArraysSupport.signedHashCode(I[BII)I -/
theorem eJ8_signedHashCode : Cl r 302 [vI x0, vR z1, vI x2, vI x3] h Q ↔ Rn r 302 0 [some (vI x0), some (vR z1), some (vI x2), some (vI x3), none, none] [] h Q := Cl_in pg302 rfl
theorem sJ8_signedHashCode_0 : Rn r 302 0 [l0, l1, some (vI x), l3, l4, l5] [] h Q ↔ Rn r 302 1 [l0, l1, some (vI x), l3, l4, l5] [vI x] h Q := Rn_nx pg302 rfl rfl
theorem sJ8_signedHashCode_1 : Rn r 302 1 [l0, l1, l2, some (vI x), l4, l5] [vI x0] h Q ↔ Rn r 302 2 [l0, l1, l2, some (vI x), l4, l5] [vI x, vI x0] h Q := Rn_nx pg302 rfl rfl
theorem sJ8_signedHashCode_2 : Rn r 302 2 [l0, l1, l2, l3, l4, l5] [vI x0, vI x1] h Q ↔ Rn r 302 3 [l0, l1, l2, l3, l4, l5] [vI (x1 + x0)] h Q := Rn_nx pg302 rfl rfl
theorem sJ8_signedHashCode_3 : Rn r 302 3 [l0, l1, l2, l3, l4, l5] [vI x0] h Q ↔ Rn r 302 5 [l0, l1, l2, l3, some (vI x0), l5] [] h Q := Rn_nx pg302 rfl rfl
theorem sJ8_signedHashCode_5 : Rn r 302 5 [l0, l1, some (vI x), l3, l4, l5] [] h Q ↔ Rn r 302 6 [l0, l1, some (vI x), l3, l4, l5] [vI x] h Q := Rn_nx pg302 rfl rfl
theorem sJ8_signedHashCode_6 : Rn r 302 6 [l0, l1, l2, l3, l4, l5] [vI x0] h Q ↔ Rn r 302 8 [l0, l1, l2, l3, l4, some (vI x0)] [] h Q := Rn_nx pg302 rfl rfl
theorem sJ8_signedHashCode_8 : Rn r 302 8 [l0, l1, l2, l3, l4, some (vI x)] [] h Q ↔ Rn r 302 10 [l0, l1, l2, l3, l4, some (vI x)] [vI x] h Q := Rn_nx pg302 rfl rfl
theorem sJ8_signedHashCode_10 : Rn r 302 10 [l0, l1, l2, l3, some (vI x), l5] [vI x0] h Q ↔ Rn r 302 12 [l0, l1, l2, l3, some (vI x), l5] [vI x, vI x0] h Q := Rn_nx pg302 rfl rfl
theorem sJ8_signedHashCode_12 : Rn r 302 12 [l0, l1, l2, l3, l4, l5] [vI x0, vI x1] h Q ↔ if x0 ≤ x1 then Rn r 302 35 [l0, l1, l2, l3, l4, l5] [] h Q else Rn r 302 15 [l0, l1, l2, l3, l4, l5] [] h Q := Rn_if pg302 rfl rfl rfl
theorem sJ8_signedHashCode_15 : Rn r 302 15 [l0, l1, l2, l3, l4, l5] [] h Q ↔ Rn r 302 17 [l0, l1, l2, l3, l4, l5] [vI 31] h Q := Rn_nx pg302 rfl rfl
theorem sJ8_signedHashCode_17 : Rn r 302 17 [some (vI x), l1, l2, l3, l4, l5] [vI x0] h Q ↔ Rn r 302 18 [some (vI x), l1, l2, l3, l4, l5] [vI x, vI x0] h Q := Rn_nx pg302 rfl rfl
theorem sJ8_signedHashCode_18 : Rn r 302 18 [l0, l1, l2, l3, l4, l5] [vI x0, vI x1] h Q ↔ Rn r 302 19 [l0, l1, l2, l3, l4, l5] [vI (x1 * x0)] h Q := Rn_nx pg302 rfl rfl
theorem sJ8_signedHashCode_19 : Rn r 302 19 [l0, some (vR z), l2, l3, l4, l5] [vI x0] h Q ↔ Rn r 302 20 [l0, some (vR z), l2, l3, l4, l5] [vR z, vI x0] h Q := Rn_nx pg302 rfl rfl
theorem sJ8_signedHashCode_20 : Rn r 302 20 [l0, l1, l2, l3, l4, some (vI x)] [vR z0, vI x1] h Q ↔ Rn r 302 22 [l0, l1, l2, l3, l4, some (vI x)] [vI x, vR z0, vI x1] h Q := Rn_nx pg302 rfl rfl
theorem sJ8_signedHashCode_22 (hk : 43 ≤ hK h a1) (hk2 : hK h a1 ≤ 45) (hx : ¬ (x0 < 0 ∨ hL h a1 ≤ x0.toNatClampNeg)) : Rn r 302 22 [l0, l1, l2, l3, l4, l5] [vI x0, vR (some a1), vI x2] h Q ↔ Rn r 302 23 [l0, l1, l2, l3, l4, l5] [vI (hI h a1 x0.toNatClampNeg), vI x2] h Q := Rn_nx pg302 rfl ((if_pos ⟨hk, hk2⟩).trans (if_neg hx))
theorem sJ8_signedHashCode_23 : Rn r 302 23 [l0, l1, l2, l3, l4, l5] [vI x0, vI x1] h Q ↔ Rn r 302 26 [l0, l1, l2, l3, l4, l5] [vI 255, vI x0, vI x1] h Q := Rn_nx pg302 rfl rfl
theorem sJ8_signedHashCode_26 : Rn r 302 26 [l0, l1, l2, l3, l4, l5] [vI x0, vI x1, vI x2] h Q ↔ Rn r 302 27 [l0, l1, l2, l3, l4, l5] [vI (x1 &&& x0), vI x2] h Q := Rn_nx pg302 rfl rfl
theorem sJ8_signedHashCode_27 : Rn r 302 27 [l0, l1, l2, l3, l4, l5] [vI x0, vI x1] h Q ↔ Rn r 302 28 [l0, l1, l2, l3, l4, l5] [vI (x1 + x0)] h Q := Rn_nx pg302 rfl rfl
theorem sJ8_signedHashCode_28 : Rn r 302 28 [l0, l1, l2, l3, l4, l5] [vI x0] h Q ↔ Rn r 302 29 [some (vI x0), l1, l2, l3, l4, l5] [] h Q := Rn_nx pg302 rfl rfl
theorem sJ8_signedHashCode_29 : Rn r 302 29 [l0, l1, l2, l3, l4, some (vI x)] [] h Q ↔ Rn r 302 32 [l0, l1, l2, l3, l4, some (vI (x + 1))] [] h Q := Rn_nx pg302 rfl rfl
theorem sJ8_signedHashCode_32 : Rn r 302 32 [l0, l1, l2, l3, l4, l5] [] h Q ↔ Rn r 302 8 [l0, l1, l2, l3, l4, l5] [] h Q := Rn_nx pg302 rfl rfl
theorem sJ8_signedHashCode_35 : Rn r 302 35 [some (vI x), l1, l2, l3, l4, l5] [] h Q ↔ Rn r 302 36 [some (vI x), l1, l2, l3, l4, l5] [vI x] h Q := Rn_nx pg302 rfl rfl
theorem sJ8_signedHashCode_36 : Rn r 302 36 [l0, l1, l2, l3, l4, l5] [vI x0] h Q ↔ Q (Sum.inl (some (vI x0))) h := Rn_end pg302 rfl rfl
/-! 303 java/lang/String.compareTo(Ljava/lang/String;)I -/
theorem eJ13_compareTo_2 : Cl r 303 [vR z0, vR z1] h Q ↔ Rn r 303 0 [some (vR z0), some (vR z1), none, none, none] [] h Q := Cl_in pg303 rfl
theorem sJ13_compareTo_2_0 : Rn r 303 0 [some (vR z), l1, l2, l3, l4] [] h Q ↔ Rn r 303 1 [some (vR z), l1, l2, l3, l4] [vR z] h Q := Rn_nx pg303 rfl rfl
theorem sJ13_compareTo_2_1 (hk : 10 ≤ hK h a0) (hk2 : hK h a0 ≤ 11) : Rn r 303 1 [l0, l1, l2, l3, l4] [vR (some a0)] h Q ↔ Rn r 303 4 [l0, l1, l2, l3, l4] [vR (hR h a0 0)] h Q := Rn_nx pg303 rfl (if_pos ⟨hk, hk2⟩)
theorem sJ13_compareTo_2_4 : Rn r 303 4 [l0, l1, l2, l3, l4] [vR z0] h Q ↔ Rn r 303 5 [l0, l1, some (vR z0), l3, l4] [] h Q := Rn_nx pg303 rfl rfl
theorem sJ13_compareTo_2_5 : Rn r 303 5 [l0, some (vR z), l2, l3, l4] [] h Q ↔ Rn r 303 6 [l0, some (vR z), l2, l3, l4] [vR z] h Q := Rn_nx pg303 rfl rfl
theorem sJ13_compareTo_2_6 (hk : 10 ≤ hK h a0) (hk2 : hK h a0 ≤ 11) : Rn r 303 6 [l0, l1, l2, l3, l4] [vR (some a0)] h Q ↔ Rn r 303 9 [l0, l1, l2, l3, l4] [vR (hR h a0 0)] h Q := Rn_nx pg303 rfl (if_pos ⟨hk, hk2⟩)
theorem sJ13_compareTo_2_9 : Rn r 303 9 [l0, l1, l2, l3, l4] [vR z0] h Q ↔ Rn r 303 10 [l0, l1, l2, some (vR z0), l4] [] h Q := Rn_nx pg303 rfl rfl
theorem sJ13_compareTo_2_10 : Rn r 303 10 [some (vR z), l1, l2, l3, l4] [] h Q ↔ Rn r 303 11 [some (vR z), l1, l2, l3, l4] [vR z] h Q := Rn_nx pg303 rfl rfl
theorem sJ13_compareTo_2_11 (hk : 10 ≤ hK h a0) (hk2 : hK h a0 ≤ 11) : Rn r 303 11 [l0, l1, l2, l3, l4] [vR (some a0)] h Q ↔ Cl r 264 [vR (some a0)] h (Kt r 303 14 [l0, l1, l2, l3, l4] [] Q) := Rn_call pg303 rfl (by rcases am_rng2 hk hk2 with q | q <;> simp only [am_exec, am_inv, am_pop, am_lk, q] <;> rfl) pg264 rfl rfl rfl
theorem sJ13_compareTo_2_14 : Rn r 303 14 [l0, l1, l2, l3, l4] [vI x0] h Q ↔ Rn r 303 16 [l0, l1, l2, l3, some (vI x0)] [] h Q := Rn_nx pg303 rfl rfl
theorem sJ13_compareTo_2_16 : Rn r 303 16 [l0, l1, l2, l3, some (vI x)] [] h Q ↔ Rn r 303 18 [l0, l1, l2, l3, some (vI x)] [vI x] h Q := Rn_nx pg303 rfl rfl
theorem sJ13_compareTo_2_18 : Rn r 303 18 [l0, some (vR z), l2, l3, l4] [vI x0] h Q ↔ Rn r 303 19 [l0, some (vR z), l2, l3, l4] [vR z, vI x0] h Q := Rn_nx pg303 rfl rfl
theorem sJ13_compareTo_2_19 (hk : 10 ≤ hK h a0) (hk2 : hK h a0 ≤ 11) : Rn r 303 19 [l0, l1, l2, l3, l4] [vR (some a0), vI x1] h Q ↔ Cl r 264 [vR (some a0)] h (Kt r 303 22 [l0, l1, l2, l3, l4] [vI x1] Q) := Rn_call pg303 rfl (by rcases am_rng2 hk hk2 with q | q <;> simp only [am_exec, am_inv, am_pop, am_lk, q] <;> rfl) pg264 rfl rfl rfl
theorem sJ13_compareTo_2_22 : Rn r 303 22 [l0, l1, l2, l3, l4] [vI x0, vI x1] h Q ↔ if x1 ≠ x0 then Rn r 303 44 [l0, l1, l2, l3, l4] [] h Q else Rn r 303 25 [l0, l1, l2, l3, l4] [] h Q := Rn_if pg303 rfl rfl rfl
theorem sJ13_compareTo_2_25 : Rn r 303 25 [l0, l1, l2, l3, some (vI x)] [] h Q ↔ Rn r 303 27 [l0, l1, l2, l3, some (vI x)] [vI x] h Q := Rn_nx pg303 rfl rfl
theorem sJ13_compareTo_2_27 : Rn r 303 27 [l0, l1, l2, l3, l4] [vI x0] h Q ↔ if x0 ≠ 0 then Rn r 303 38 [l0, l1, l2, l3, l4] [] h Q else Rn r 303 30 [l0, l1, l2, l3, l4] [] h Q := Rn_if pg303 rfl rfl rfl
theorem sJ13_compareTo_2_30 : Rn r 303 30 [l0, l1, some (vR z), l3, l4] [] h Q ↔ Rn r 303 31 [l0, l1, some (vR z), l3, l4] [vR z] h Q := Rn_nx pg303 rfl rfl
theorem sJ13_compareTo_2_31 : Rn r 303 31 [l0, l1, l2, some (vR z), l4] [vR z0] h Q ↔ Rn r 303 32 [l0, l1, l2, some (vR z), l4] [vR z, vR z0] h Q := Rn_nx pg303 rfl rfl
theorem sJ13_compareTo_2_32 : Rn r 303 32 [l0, l1, l2, l3, l4] [vR z0, vR z1] h Q ↔ Cl r 310 [vR z1, vR z0] h (Kt r 303 35 [l0, l1, l2, l3, l4] [] Q) := Rn_call pg303 rfl rfl pg310 rfl rfl rfl
theorem sJ13_compareTo_2_35 : Rn r 303 35 [l0, l1, l2, l3, l4] [vI x0] h Q ↔ Rn r 303 43 [l0, l1, l2, l3, l4] [vI x0] h Q := Rn_nx pg303 rfl rfl
theorem sJ13_compareTo_2_38 : Rn r 303 38 [l0, l1, some (vR z), l3, l4] [] h Q ↔ Rn r 303 39 [l0, l1, some (vR z), l3, l4] [vR z] h Q := Rn_nx pg303 rfl rfl
theorem sJ13_compareTo_2_39 : Rn r 303 39 [l0, l1, l2, some (vR z), l4] [vR z0] h Q ↔ Rn r 303 40 [l0, l1, l2, some (vR z), l4] [vR z, vR z0] h Q := Rn_nx pg303 rfl rfl
theorem sJ13_compareTo_2_43 : Rn r 303 43 [l0, l1, l2, l3, l4] [vI x0] h Q ↔ Q (Sum.inl (some (vI x0))) h := Rn_end pg303 rfl rfl
theorem sJ13_compareTo_2_44 : Rn r 303 44 [l0, l1, l2, l3, some (vI x)] [] h Q ↔ Rn r 303 46 [l0, l1, l2, l3, some (vI x)] [vI x] h Q := Rn_nx pg303 rfl rfl
theorem sJ13_compareTo_2_46 : Rn r 303 46 [l0, l1, l2, l3, l4] [vI x0] h Q ↔ if x0 ≠ 0 then Rn r 303 57 [l0, l1, l2, l3, l4] [] h Q else Rn r 303 49 [l0, l1, l2, l3, l4] [] h Q := Rn_if pg303 rfl rfl rfl
theorem sJ13_compareTo_2_49 : Rn r 303 49 [l0, l1, some (vR z), l3, l4] [] h Q ↔ Rn r 303 50 [l0, l1, some (vR z), l3, l4] [vR z] h Q := Rn_nx pg303 rfl rfl
theorem sJ13_compareTo_2_50 : Rn r 303 50 [l0, l1, l2, some (vR z), l4] [vR z0] h Q ↔ Rn r 303 51 [l0, l1, l2, some (vR z), l4] [vR z, vR z0] h Q := Rn_nx pg303 rfl rfl
theorem sJ13_compareTo_2_54 : Rn r 303 54 [l0, l1, l2, l3, l4] [vI x0] h Q ↔ Rn r 303 62 [l0, l1, l2, l3, l4] [vI x0] h Q := Rn_nx pg303 rfl rfl
theorem sJ13_compareTo_2_57 : Rn r 303 57 [l0, l1, some (vR z), l3, l4] [] h Q ↔ Rn r 303 58 [l0, l1, some (vR z), l3, l4] [vR z] h Q := Rn_nx pg303 rfl rfl
theorem sJ13_compareTo_2_58 : Rn r 303 58 [l0, l1, l2, some (vR z), l4] [vR z0] h Q ↔ Rn r 303 59 [l0, l1, l2, some (vR z), l4] [vR z, vR z0] h Q := Rn_nx pg303 rfl rfl
theorem sJ13_compareTo_2_62 : Rn r 303 62 [l0, l1, l2, l3, l4] [vI x0] h Q ↔ Q (Sum.inl (some (vI x0))) h := Rn_end pg303 rfl rfl
/-! 304 java/util/Arrays.copyOf([Ljava/lang/Object;ILjava/lang/Class;)[Ljava/lang/Object; -/
theorem eJ10_copyOf_2 : Cl r 304 [vR z0, vI x1, vR z2] h Q ↔ Rn r 304 0 [some (vR z0), some (vI x1), some (vR z2), none] [] h Q := Cl_in pg304 rfl
theorem sJ10_copyOf_2_0 : Rn r 304 0 [l0, l1, some (vR z), l3] [] h Q ↔ Rn r 304 1 [l0, l1, some (vR z), l3] [vR z] h Q := Rn_nx pg304 rfl rfl
theorem sJ10_copyOf_2_1 : Rn r 304 1 [l0, l1, l2, l3] [vR z0] h Q ↔ Rn r 304 3 [l0, l1, l2, l3] [vR (some (hE h 41)), vR z0] h Q := Rn_nx pg304 rfl rfl
theorem sJ10_copyOf_2_3 : Rn r 304 3 [l0, l1, l2, l3] [vR z0, vR z1] h Q ↔ if z1 ≠ z0 then Rn r 304 13 [l0, l1, l2, l3] [] h Q else Rn r 304 6 [l0, l1, l2, l3] [] h Q := Rn_if pg304 rfl rfl rfl
theorem sJ10_copyOf_2_6 : Rn r 304 6 [l0, some (vI x), l2, l3] [] h Q ↔ Rn r 304 7 [l0, some (vI x), l2, l3] [vI x] h Q := Rn_nx pg304 rfl rfl
theorem sJ10_copyOf_2_7 (hn : ¬ (x0 < 0 ∨ 65536 < x0.toNatClampNeg)) : Rn r 304 7 [l0, l1, l2, l3] [vI x0] h Q ↔ Rn r 304 10 [l0, l1, l2, l3] [vR (some (hN h))] (newC h 46 x0.toNatClampNeg) Q := Rn_nx pg304 rfl (if_neg hn)
theorem sJ10_copyOf_2_10 : Rn r 304 10 [l0, l1, l2, l3] [vR z0] h Q ↔ Rn r 304 24 [l0, l1, l2, l3] [vR z0] h Q := Rn_nx pg304 rfl rfl
theorem sJ10_copyOf_2_13 : Rn r 304 13 [l0, l1, some (vR z), l3] [] h Q ↔ Rn r 304 14 [l0, l1, some (vR z), l3] [vR z] h Q := Rn_nx pg304 rfl rfl
theorem sJ10_copyOf_2_24 : Rn r 304 24 [l0, l1, l2, l3] [vR z0] h Q ↔ Rn r 304 25 [l0, l1, l2, some (vR z0)] [] h Q := Rn_nx pg304 rfl rfl
theorem sJ10_copyOf_2_25 : Rn r 304 25 [some (vR z), l1, l2, l3] [] h Q ↔ Rn r 304 26 [some (vR z), l1, l2, l3] [vR z] h Q := Rn_nx pg304 rfl rfl
theorem sJ10_copyOf_2_26 : Rn r 304 26 [l0, l1, l2, l3] [vR z0] h Q ↔ Rn r 304 27 [l0, l1, l2, l3] [vI 0, vR z0] h Q := Rn_nx pg304 rfl rfl
theorem sJ10_copyOf_2_27 : Rn r 304 27 [l0, l1, l2, some (vR z)] [vI x0, vR z1] h Q ↔ Rn r 304 28 [l0, l1, l2, some (vR z)] [vR z, vI x0, vR z1] h Q := Rn_nx pg304 rfl rfl
theorem sJ10_copyOf_2_28 : Rn r 304 28 [l0, l1, l2, l3] [vR z0, vI x1, vR z2] h Q ↔ Rn r 304 29 [l0, l1, l2, l3] [vI 0, vR z0, vI x1, vR z2] h Q := Rn_nx pg304 rfl rfl
theorem sJ10_copyOf_2_29 : Rn r 304 29 [some (vR z), l1, l2, l3] [vI x0, vR z1, vI x2, vR z3] h Q ↔ Rn r 304 30 [some (vR z), l1, l2, l3] [vR z, vI x0, vR z1, vI x2, vR z3] h Q := Rn_nx pg304 rfl rfl
theorem sJ10_copyOf_2_30 (hk : 40 ≤ hK h a0) (hk2 : hK h a0 ≤ 49) : Rn r 304 30 [l0, l1, l2, l3] [vR (some a0), vI x1, vR z2, vI x3, vR z4] h Q ↔ Rn r 304 31 [l0, l1, l2, l3] [vI (nI (hL h a0)), vI x1, vR z2, vI x3, vR z4] h Q := Rn_nx pg304 rfl (if_pos ⟨hk, hk2⟩)
theorem sJ10_copyOf_2_31 : Rn r 304 31 [l0, some (vI x), l2, l3] [vI x0, vI x1, vR z2, vI x3, vR z4] h Q ↔ Rn r 304 32 [l0, some (vI x), l2, l3] [vI x, vI x0, vI x1, vR z2, vI x3, vR z4] h Q := Rn_nx pg304 rfl rfl
theorem sJ10_copyOf_2_32 : Rn r 304 32 [l0, l1, l2, l3] [vI x0, vI x1, vI x2, vR z3, vI x4, vR z5] h Q ↔ Cl r 246 [vI x1, vI x0] h (Kt r 304 35 [l0, l1, l2, l3] [vI x2, vR z3, vI x4, vR z5] Q) := Rn_call pg304 rfl rfl pg246 rfl rfl rfl
theorem sJ10_copyOf_2_35 (h0 : 0 ≤ x0 ∧ 0 ≤ x3 ∧ 0 ≤ x1 ∧ x3.toNatClampNeg + x0.toNatClampNeg ≤ hL h a4 ∧ x1.toNatClampNeg + x0.toNatClampNeg ≤ hL h a2) (hk : (hK h a4 = 44 ∨ hK h a4 = 45) ∧ hK h a2 = 44) : Rn r 304 35 [l0, l1, l2, l3] [vI x0, vI x1, vR (some a2), vI x3, vR (some a4)] h Q ↔ Rn r 304 38 [l0, l1, l2, l3] [] (cpyI h a4 x3.toNatClampNeg a2 x1.toNatClampNeg x0.toNatClampNeg) Q := Rn_nx pg304 rfl ((if_pos ⟨by decide, h0⟩).trans (if_pos hk))
theorem sJ10_copyOf_2_35_r (h0 : 0 ≤ x0 ∧ 0 ≤ x3 ∧ 0 ≤ x1 ∧ x3.toNatClampNeg + x0.toNatClampNeg ≤ hL h a4 ∧ x1.toNatClampNeg + x0.toNatClampNeg ≤ hL h a2) (hk : (hK h a4 = 46 ∨ hK h a4 = 47) ∧ hK h a2 = 46) : Rn r 304 35 [l0, l1, l2, l3] [vI x0, vI x1, vR (some a2), vI x3, vR (some a4)] h Q ↔ Rn r 304 38 [l0, l1, l2, l3] [] (cpyR h a4 x3.toNatClampNeg a2 x1.toNatClampNeg x0.toNatClampNeg) Q := Rn_nx pg304 rfl ((if_pos ⟨by decide, h0⟩).trans ((if_neg (fun q => by rw [hk.2] at q; exact absurd q.2 (by decide))).trans (if_pos hk)))
theorem sJ10_copyOf_2_38 : Rn r 304 38 [l0, l1, l2, some (vR z)] [] h Q ↔ Rn r 304 39 [l0, l1, l2, some (vR z)] [vR z] h Q := Rn_nx pg304 rfl rfl
theorem sJ10_copyOf_2_39 : Rn r 304 39 [l0, l1, l2, l3] [vR z0] h Q ↔ Q (Sum.inl (some (vR z0))) h := Rn_end pg304 rfl rfl
/-! 305 java/util/LinkedHashMap$Entry.<init>(ILjava/lang/Object;Ljava/lang/Object;Ljava/util/HashMap$Node;)V -/
theorem eJ20_init : Cl r 305 [vR z0, vI x1, vR z2, vR z3, vR z4] h Q ↔ Rn r 305 0 [some (vR z0), some (vI x1), some (vR z2), some (vR z3), some (vR z4)] [] h Q := Cl_in pg305 rfl
theorem sJ20_init_0 : Rn r 305 0 [some (vR z), l1, l2, l3, l4] [] h Q ↔ Rn r 305 1 [some (vR z), l1, l2, l3, l4] [vR z] h Q := Rn_nx pg305 rfl rfl
theorem sJ20_init_1 : Rn r 305 1 [l0, some (vI x), l2, l3, l4] [vR z0] h Q ↔ Rn r 305 2 [l0, some (vI x), l2, l3, l4] [vI x, vR z0] h Q := Rn_nx pg305 rfl rfl
theorem sJ20_init_2 : Rn r 305 2 [l0, l1, some (vR z), l3, l4] [vI x0, vR z1] h Q ↔ Rn r 305 3 [l0, l1, some (vR z), l3, l4] [vR z, vI x0, vR z1] h Q := Rn_nx pg305 rfl rfl
theorem sJ20_init_3 : Rn r 305 3 [l0, l1, l2, some (vR z), l4] [vR z0, vI x1, vR z2] h Q ↔ Rn r 305 4 [l0, l1, l2, some (vR z), l4] [vR z, vR z0, vI x1, vR z2] h Q := Rn_nx pg305 rfl rfl
theorem sJ20_init_4 : Rn r 305 4 [l0, l1, l2, l3, some (vR z)] [vR z0, vR z1, vI x2, vR z3] h Q ↔ Rn r 305 6 [l0, l1, l2, l3, some (vR z)] [vR z, vR z0, vR z1, vI x2, vR z3] h Q := Rn_nx pg305 rfl rfl
theorem sJ20_init_6 (hk : 0 < hK h a4) (hk2 : hK h a4 < 40) : Rn r 305 6 [l0, l1, l2, l3, l4] [vR z0, vR z1, vR z2, vI x3, vR (some a4)] h Q ↔ Cl r 258 [vR (some a4), vI x3, vR z2, vR z1, vR z0] h (Kt r 305 9 [l0, l1, l2, l3, l4] [] Q) := Rn_call pg305 rfl (if_pos ⟨hk, hk2⟩) pg258 rfl rfl rfl
theorem sJ20_init_9 : Rn r 305 9 [l0, l1, l2, l3, l4] [] h Q ↔ Q (Sum.inl none) h := Rn_end pg305 rfl rfl
end ST6
