/-! STEP LEMMAS, printed by gen_steps.py -/
set_option maxRecDepth 100000
section ST5
variable {r : Nat} {h : am_H} {Q : am_O → am_H → Prop} {x x0 x1 x2 x3 x4 x5 x6 x7 x8 x9 x10 x11 : Int32} {y y0 y1 y2 y3 y4 y5 y6 y7 y8 y9 y10 y11 : Int64} {z z0 z1 z2 z3 z4 z5 z6 z7 z8 z9 z10 z11 : Option Nat} {w0 w1 w2 : UInt32} {a0 a1 a2 a3 a4 a5 a6 a7 a8 a9 a10 a11 : Nat} {l0 l1 l2 l3 l4 l5 l6 l7 l8 l9 l10 l11 l12 l13 l14 l15 l16 l17 l18 l19 : Option am_V}
/-! 194 ThrowRules$Walk.step()Z -/
theorem eX5_step : Cl r 194 [vR z0] h Q ↔ Rn r 194 0 [some (vR z0)] [] h Q := Cl_in pg194 rfl
theorem sX5_step_0 : Rn r 194 0 [some (vR z)] [] h Q ↔ Rn r 194 1 [some (vR z)] [vR z] h Q := Rn_nx pg194 rfl rfl
theorem sX5_step_1 (hk : hK h a0 = 14) : Rn r 194 1 [l0] [vR (some a0)] h Q ↔ Rn r 194 4 [l0] [vI (hI h a0 4)] h Q := Rn_nx pg194 rfl (if_pos ⟨(hk ▸ Nat.le_refl _), (hk ▸ Nat.le_refl _)⟩)
theorem sX5_step_4 : Rn r 194 4 [l0] [vI x0] h Q ↔ Rn r 194 7 [l0] [vI 300, vI x0] h Q := Rn_nx pg194 rfl rfl
theorem sX5_step_7 : Rn r 194 7 [l0] [vI x0, vI x1] h Q ↔ if x1 ≠ x0 then Rn r 194 17 [l0] [] h Q else Rn r 194 10 [l0] [] h Q := Rn_if pg194 rfl rfl rfl
theorem sX5_step_10 : Rn r 194 10 [some (vR z)] [] h Q ↔ Rn r 194 11 [some (vR z)] [vR z] h Q := Rn_nx pg194 rfl rfl
theorem sX5_step_11 : Rn r 194 11 [l0] [vR z0] h Q ↔ Rn r 194 12 [l0] [vI 4, vR z0] h Q := Rn_nx pg194 rfl rfl
theorem sX5_step_12 (hk : hK h a1 = 14) : Rn r 194 12 [l0] [vI x0, vR (some a1)] h Q ↔ Rn r 194 15 [l0] [] (putI h a1 0 x0) Q := Rn_nx pg194 rfl ((if_pos ⟨(hk ▸ Nat.le_refl _), (hk ▸ Nat.le_refl _)⟩).trans rfl)
theorem sX5_step_15 : Rn r 194 15 [l0] [] h Q ↔ Rn r 194 16 [l0] [vI 0] h Q := Rn_nx pg194 rfl rfl
theorem sX5_step_16 (hf : am_fit 4 x0 = true) : Rn r 194 16 [l0] [vI x0] h Q ↔ Q (Sum.inl (some (vI x0))) h := Rn_end pg194 rfl (if_pos hf)
theorem sX5_step_17 : Rn r 194 17 [some (vR z)] [] h Q ↔ Rn r 194 18 [some (vR z)] [vR z] h Q := Rn_nx pg194 rfl rfl
theorem sX5_step_18 : Rn r 194 18 [l0] [vR z0] h Q ↔ Rn r 194 19 [l0] [vR z0, vR z0] h Q := Rn_nx pg194 rfl rfl
theorem sX5_step_19 (hk : hK h a0 = 14) : Rn r 194 19 [l0] [vR (some a0), vR z1] h Q ↔ Rn r 194 22 [l0] [vI (hI h a0 4), vR z1] h Q := Rn_nx pg194 rfl (if_pos ⟨(hk ▸ Nat.le_refl _), (hk ▸ Nat.le_refl _)⟩)
theorem sX5_step_22 : Rn r 194 22 [l0] [vI x0, vR z1] h Q ↔ Rn r 194 23 [l0] [vI 1, vI x0, vR z1] h Q := Rn_nx pg194 rfl rfl
theorem sX5_step_23 : Rn r 194 23 [l0] [vI x0, vI x1, vR z2] h Q ↔ Rn r 194 24 [l0] [vI (x1 + x0), vR z2] h Q := Rn_nx pg194 rfl rfl
theorem sX5_step_24 (hk : hK h a1 = 14) : Rn r 194 24 [l0] [vI x0, vR (some a1)] h Q ↔ Rn r 194 27 [l0] [] (putI h a1 4 x0) Q := Rn_nx pg194 rfl ((if_pos ⟨(hk ▸ Nat.le_refl _), (hk ▸ Nat.le_refl _)⟩).trans rfl)
theorem sX5_step_27 : Rn r 194 27 [l0] [] h Q ↔ Rn r 194 28 [l0] [vI 1] h Q := Rn_nx pg194 rfl rfl
theorem sX5_step_28 (hf : am_fit 4 x0 = true) : Rn r 194 28 [l0] [vI x0] h Q ↔ Q (Sum.inl (some (vI x0))) h := Rn_end pg194 rfl (if_pos hf)
/-! 195 ThrowRules$Plain.walk(LThrowRules$Walk;)V -/
theorem eX14_walk : Cl r 195 [vR z0, vR z1] h Q ↔ Rn r 195 0 [some (vR z0), some (vR z1)] [] h Q := Cl_in pg195 rfl
theorem sX14_walk_0 : Rn r 195 0 [some (vR z), l1] [] h Q ↔ Rn r 195 1 [some (vR z), l1] [vR z] h Q := Rn_nx pg195 rfl rfl
theorem sX14_walk_1 (hk : hK h a0 = 30) : Rn r 195 1 [l0, l1] [vR (some a0)] h Q ↔ Rn r 195 4 [l0, l1] [vI (hI h a0 5)] h Q := Rn_nx pg195 rfl (if_pos ⟨(hk ▸ Nat.le_refl _), (hk ▸ Nat.le_refl _)⟩)
theorem sX14_walk_4 : Rn r 195 4 [l0, l1] [vI x0] h Q ↔ Rn r 195 6 [l0, l1] [vI 8, vI x0] h Q := Rn_nx pg195 rfl rfl
theorem sX14_walk_6 : Rn r 195 6 [l0, l1] [vI x0, vI x1] h Q ↔ if x1 ≠ x0 then Rn r 195 17 [l0, l1] [] h Q else Rn r 195 9 [l0, l1] [] h Q := Rn_if pg195 rfl rfl rfl
theorem sX14_walk_9 : Rn r 195 9 [l0, some (vR z)] [] h Q ↔ Rn r 195 10 [l0, some (vR z)] [vR z] h Q := Rn_nx pg195 rfl rfl
theorem sX14_walk_10 : Rn r 195 10 [l0, l1] [vR z0] h Q ↔ Rn r 195 11 [l0, l1] [vI 2, vR z0] h Q := Rn_nx pg195 rfl rfl
theorem sX14_walk_11 (hk : hK h a1 = 14) : Rn r 195 11 [l0, l1] [vI x0, vR (some a1)] h Q ↔ Rn r 195 14 [l0, l1] [] (putI h a1 0 x0) Q := Rn_nx pg195 rfl ((if_pos ⟨(hk ▸ Nat.le_refl _), (hk ▸ Nat.le_refl _)⟩).trans rfl)
theorem sX14_walk_14 : Rn r 195 14 [l0, l1] [] h Q ↔ Rn r 195 48 [l0, l1] [] h Q := Rn_nx pg195 rfl rfl
theorem sX14_walk_17 : Rn r 195 17 [some (vR z), l1] [] h Q ↔ Rn r 195 18 [some (vR z), l1] [vR z] h Q := Rn_nx pg195 rfl rfl
theorem sX14_walk_18 (hk : hK h a0 = 30) : Rn r 195 18 [l0, l1] [vR (some a0)] h Q ↔ Rn r 195 21 [l0, l1] [vR (hR h a0 6)] h Q := Rn_nx pg195 rfl (if_pos ⟨(hk ▸ Nat.le_refl _), (hk ▸ Nat.le_refl _)⟩)
theorem sX14_walk_21 : Rn r 195 21 [l0, l1] [vR z0] h Q ↔ if z0 = none then Rn r 195 48 [l0, l1] [] h Q else Rn r 195 24 [l0, l1] [] h Q := Rn_if pg195 rfl rfl rfl
theorem sX14_walk_24 : Rn r 195 24 [some (vR z), l1] [] h Q ↔ Rn r 195 25 [some (vR z), l1] [vR z] h Q := Rn_nx pg195 rfl rfl
theorem sX14_walk_25 (hk : hK h a0 = 30) : Rn r 195 25 [l0, l1] [vR (some a0)] h Q ↔ Rn r 195 28 [l0, l1] [vR (hR h a0 6)] h Q := Rn_nx pg195 rfl (if_pos ⟨(hk ▸ Nat.le_refl _), (hk ▸ Nat.le_refl _)⟩)
theorem sX14_walk_28 (hk : hK h a0 = 22) : Rn r 195 28 [l0, l1] [vR (some a0)] h Q ↔ Cl r 252 [vR (some a0)] h (Kt r 195 31 [l0, l1] [] Q) := Rn_call pg195 rfl (by simp only [am_exec, am_inv, am_pop, am_lk, hk]; rfl) pg252 rfl rfl rfl
theorem sX14_walk_31 : Rn r 195 31 [l0, l1] [vR z0] h Q ↔ if z0 = none then Rn r 195 48 [l0, l1] [] h Q else Rn r 195 34 [l0, l1] [] h Q := Rn_if pg195 rfl rfl rfl
theorem sX14_walk_34 : Rn r 195 34 [some (vR z), l1] [] h Q ↔ Rn r 195 35 [some (vR z), l1] [vR z] h Q := Rn_nx pg195 rfl rfl
theorem sX14_walk_35 (hk : hK h a0 = 30) : Rn r 195 35 [l0, l1] [vR (some a0)] h Q ↔ Rn r 195 38 [l0, l1] [vR (hR h a0 6)] h Q := Rn_nx pg195 rfl (if_pos ⟨(hk ▸ Nat.le_refl _), (hk ▸ Nat.le_refl _)⟩)
theorem sX14_walk_38 : Rn r 195 38 [some (vR z), l1] [vR z0] h Q ↔ Rn r 195 39 [some (vR z), l1] [vR z, vR z0] h Q := Rn_nx pg195 rfl rfl
theorem sX14_walk_39 (hk : hK h a0 = 30) : Rn r 195 39 [l0, l1] [vR (some a0), vR z1] h Q ↔ Rn r 195 42 [l0, l1] [vR (hR h a0 6), vR z1] h Q := Rn_nx pg195 rfl (if_pos ⟨(hk ▸ Nat.le_refl _), (hk ▸ Nat.le_refl _)⟩)
theorem sX14_walk_42 (hk : hK h a0 = 22) : Rn r 195 42 [l0, l1] [vR (some a0), vR z1] h Q ↔ Cl r 252 [vR (some a0)] h (Kt r 195 45 [l0, l1] [vR z1] Q) := Rn_call pg195 rfl (by simp only [am_exec, am_inv, am_pop, am_lk, hk]; rfl) pg252 rfl rfl rfl
theorem sX14_walk_45 (hk : hK h a1 = 22) : Rn r 195 45 [l0, l1] [vR z0, vR (some a1)] h Q ↔ Rn r 195 48 [l0, l1] [] (putR h a1 5 z0) Q := Rn_nx pg195 rfl ((if_pos ⟨(hk ▸ Nat.le_refl _), (hk ▸ Nat.le_refl _)⟩).trans rfl)
theorem sX14_walk_48 : Rn r 195 48 [l0, l1] [] h Q ↔ Q (Sum.inl none) h := Rn_end pg195 rfl rfl
/-! 196 ThrowRules$Call.walk(LThrowRules$Walk;)V -/
theorem eX15_walk : Cl r 196 [vR z0, vR z1] h Q ↔ Rn r 196 0 [some (vR z0), some (vR z1)] [] h Q := Cl_in pg196 rfl
theorem sX15_walk_0 : Rn r 196 0 [some (vR z), l1] [] h Q ↔ Rn r 196 1 [some (vR z), l1] [vR z] h Q := Rn_nx pg196 rfl rfl
theorem sX15_walk_1 (hk : hK h a0 = 31) : Rn r 196 1 [l0, l1] [vR (some a0)] h Q ↔ Rn r 196 4 [l0, l1] [vR (hR h a0 6)] h Q := Rn_nx pg196 rfl (if_pos ⟨(hk ▸ Nat.le_refl _), (hk ▸ Nat.le_refl _)⟩)
theorem sX15_walk_4 : Rn r 196 4 [l0, l1] [vR z0] h Q ↔ if z0 ≠ none then Rn r 196 8 [l0, l1] [] h Q else Rn r 196 7 [l0, l1] [] h Q := Rn_if pg196 rfl rfl rfl
theorem sX15_walk_7 : Rn r 196 7 [l0, l1] [] h Q ↔ Q (Sum.inl none) h := Rn_end pg196 rfl rfl
theorem sX15_walk_8 : Rn r 196 8 [some (vR z), l1] [] h Q ↔ Rn r 196 9 [some (vR z), l1] [vR z] h Q := Rn_nx pg196 rfl rfl
theorem sX15_walk_9 (hk : hK h a0 = 31) : Rn r 196 9 [l0, l1] [vR (some a0)] h Q ↔ Rn r 196 12 [l0, l1] [vR (hR h a0 7)] h Q := Rn_nx pg196 rfl (if_pos ⟨(hk ▸ Nat.le_refl _), (hk ▸ Nat.le_refl _)⟩)
theorem sX15_walk_12 : Rn r 196 12 [l0, l1] [vR z0] h Q ↔ if z0 = none then Rn r 196 62 [l0, l1] [] h Q else Rn r 196 15 [l0, l1] [] h Q := Rn_if pg196 rfl rfl rfl
theorem sX15_walk_15 : Rn r 196 15 [some (vR z), l1] [] h Q ↔ Rn r 196 16 [some (vR z), l1] [vR z] h Q := Rn_nx pg196 rfl rfl
theorem sX15_walk_16 (hk : hK h a0 = 31) : Rn r 196 16 [l0, l1] [vR (some a0)] h Q ↔ Rn r 196 19 [l0, l1] [vR (hR h a0 6)] h Q := Rn_nx pg196 rfl (if_pos ⟨(hk ▸ Nat.le_refl _), (hk ▸ Nat.le_refl _)⟩)
theorem sX15_walk_19 (hk : hK h a0 = 18) : Rn r 196 19 [l0, l1] [vR (some a0)] h Q ↔ Rn r 196 22 [l0, l1] [vI (hI h a0 3)] h Q := Rn_nx pg196 rfl (if_pos ⟨(hk ▸ Nat.le_refl _), (hk ▸ Nat.le_refl _)⟩)
theorem sX15_walk_22 : Rn r 196 22 [l0, l1] [vI x0] h Q ↔ if x0 = 0 then Rn r 196 62 [l0, l1] [] h Q else Rn r 196 25 [l0, l1] [] h Q := Rn_if pg196 rfl rfl rfl
theorem sX15_walk_25 : Rn r 196 25 [l0, some (vR z)] [] h Q ↔ Rn r 196 26 [l0, some (vR z)] [vR z] h Q := Rn_nx pg196 rfl rfl
theorem sX15_walk_26 : Rn r 196 26 [l0, l1] [vR z0] h Q ↔ Rn r 196 27 [l0, l1] [vI 2, vR z0] h Q := Rn_nx pg196 rfl rfl
theorem sX15_walk_27 (hk : hK h a1 = 14) : Rn r 196 27 [l0, l1] [vI x0, vR (some a1)] h Q ↔ Cl r 253 [vR (some a1), vI x0] h (Kt r 196 30 [l0, l1] [] Q) := Rn_call pg196 rfl (by simp only [am_exec, am_inv, am_pop, am_lk, hk]; rfl) pg253 rfl rfl rfl
theorem sX15_walk_30 : Rn r 196 30 [l0, l1] [vI x0] h Q ↔ Rn r 196 31 [l0, l1] [vI 1, vI x0] h Q := Rn_nx pg196 rfl rfl
theorem sX15_walk_31 : Rn r 196 31 [l0, l1] [vI x0, vI x1] h Q ↔ if x1 ≠ x0 then Rn r 196 62 [l0, l1] [] h Q else Rn r 196 34 [l0, l1] [] h Q := Rn_if pg196 rfl rfl rfl
theorem sX15_walk_34 : Rn r 196 34 [some (vR z), l1] [] h Q ↔ Rn r 196 35 [some (vR z), l1] [vR z] h Q := Rn_nx pg196 rfl rfl
theorem sX15_walk_35 (hk : hK h a0 = 31) : Rn r 196 35 [l0, l1] [vR (some a0)] h Q ↔ Rn r 196 38 [l0, l1] [vR (hR h a0 7)] h Q := Rn_nx pg196 rfl (if_pos ⟨(hk ▸ Nat.le_refl _), (hk ▸ Nat.le_refl _)⟩)
theorem sX15_walk_38 : Rn r 196 38 [l0, some (vR z)] [vR z0] h Q ↔ Rn r 196 39 [l0, some (vR z)] [vR z, vR z0] h Q := Rn_nx pg196 rfl rfl
theorem sX15_walk_39 (hk : hK h a1 = 21) : Rn (r + 1) 196 39 [l0, l1] [vR z0, vR (some a1)] h Q ↔ Cl r 106 [vR (some a1), vR z0] h (Kt (r + 1) 196 42 [l0, l1] [] Q) := Rn_call pg196 rfl (by simp only [am_exec, am_inv, am_pop, am_lk, hk]; rfl) pg106 rfl rfl rfl
theorem sX15_walk_42 : Rn r 196 42 [l0, some (vR z)] [] h Q ↔ Rn r 196 43 [l0, some (vR z)] [vR z] h Q := Rn_nx pg196 rfl rfl
theorem sX15_walk_43 : Rn r 196 43 [l0, some (vR z)] [vR z0] h Q ↔ Rn r 196 44 [l0, some (vR z)] [vR z, vR z0] h Q := Rn_nx pg196 rfl rfl
theorem sX15_walk_44 (hk : hK h a0 = 14) : Rn r 196 44 [l0, l1] [vR (some a0), vR z1] h Q ↔ Rn r 196 47 [l0, l1] [vI (hI h a0 0), vR z1] h Q := Rn_nx pg196 rfl (if_pos ⟨(hk ▸ Nat.le_refl _), (hk ▸ Nat.le_refl _)⟩)
theorem sX15_walk_47 : Rn r 196 47 [l0, l1] [vI x0, vR z1] h Q ↔ Rn r 196 48 [l0, l1] [vI 2, vI x0, vR z1] h Q := Rn_nx pg196 rfl rfl
theorem sX15_walk_48 : Rn r 196 48 [l0, l1] [vI x0, vI x1, vR z2] h Q ↔ if x1 ≠ x0 then Rn r 196 55 [l0, l1] [vR z2] h Q else Rn r 196 51 [l0, l1] [vR z2] h Q := Rn_if pg196 rfl rfl rfl
theorem sX15_walk_51 : Rn r 196 51 [l0, l1] [vR z0] h Q ↔ Rn r 196 52 [l0, l1] [vI 0, vR z0] h Q := Rn_nx pg196 rfl rfl
theorem sX15_walk_52 : Rn r 196 52 [l0, l1] [vI x0, vR z1] h Q ↔ Rn r 196 59 [l0, l1] [vI x0, vR z1] h Q := Rn_nx pg196 rfl rfl
theorem sX15_walk_55 : Rn r 196 55 [l0, some (vR z)] [vR z0] h Q ↔ Rn r 196 56 [l0, some (vR z)] [vR z, vR z0] h Q := Rn_nx pg196 rfl rfl
theorem sX15_walk_56 (hk : hK h a0 = 14) : Rn r 196 56 [l0, l1] [vR (some a0), vR z1] h Q ↔ Rn r 196 59 [l0, l1] [vI (hI h a0 0), vR z1] h Q := Rn_nx pg196 rfl (if_pos ⟨(hk ▸ Nat.le_refl _), (hk ▸ Nat.le_refl _)⟩)
theorem sX15_walk_59 (hk : hK h a1 = 14) : Rn r 196 59 [l0, l1] [vI x0, vR (some a1)] h Q ↔ Rn r 196 62 [l0, l1] [] (putI h a1 0 x0) Q := Rn_nx pg196 rfl ((if_pos ⟨(hk ▸ Nat.le_refl _), (hk ▸ Nat.le_refl _)⟩).trans rfl)
theorem sX15_walk_62 : Rn r 196 62 [l0, some (vR z)] [] h Q ↔ Rn r 196 63 [l0, some (vR z)] [vR z] h Q := Rn_nx pg196 rfl rfl
theorem sX15_walk_63 (hk : hK h a0 = 14) : Rn r 196 63 [l0, l1] [vR (some a0)] h Q ↔ Rn r 196 66 [l0, l1] [vI (hI h a0 0)] h Q := Rn_nx pg196 rfl (if_pos ⟨(hk ▸ Nat.le_refl _), (hk ▸ Nat.le_refl _)⟩)
theorem sX15_walk_66 : Rn r 196 66 [l0, l1] [vI x0] h Q ↔ if x0 ≠ 0 then Rn r 196 77 [l0, l1] [] h Q else Rn r 196 69 [l0, l1] [] h Q := Rn_if pg196 rfl rfl rfl
theorem sX15_walk_69 : Rn r 196 69 [l0, some (vR z)] [] h Q ↔ Rn r 196 70 [l0, some (vR z)] [vR z] h Q := Rn_nx pg196 rfl rfl
theorem sX15_walk_70 : Rn r 196 70 [some (vR z), l1] [vR z0] h Q ↔ Rn r 196 71 [some (vR z), l1] [vR z, vR z0] h Q := Rn_nx pg196 rfl rfl
theorem sX15_walk_71 (hk : hK h a0 = 31) : Rn r 196 71 [l0, l1] [vR (some a0), vR z1] h Q ↔ Rn r 196 74 [l0, l1] [vR (hR h a0 6), vR z1] h Q := Rn_nx pg196 rfl (if_pos ⟨(hk ▸ Nat.le_refl _), (hk ▸ Nat.le_refl _)⟩)
theorem sX15_walk_74 (hk : hK h a1 = 14) : Rn r 196 74 [l0, l1] [vR z0, vR (some a1)] h Q ↔ Cl r 254 [vR (some a1), vR z0] h (Kt r 196 77 [l0, l1] [] Q) := Rn_call pg196 rfl (by simp only [am_exec, am_inv, am_pop, am_lk, hk]; rfl) pg254 rfl rfl rfl
theorem sX15_walk_77 : Rn r 196 77 [l0, l1] [] h Q ↔ Q (Sum.inl none) h := Rn_end pg196 rfl rfl
/-! 197 ThrowRules$Throw.walk(LThrowRules$Walk;)V -/
theorem eX16_walk : Cl r 197 [vR z0, vR z1] h Q ↔ Rn r 197 0 [some (vR z0), some (vR z1), none] [] h Q := Cl_in pg197 rfl
theorem sX16_walk_0 : Rn r 197 0 [some (vR z), l1, l2] [] h Q ↔ Rn r 197 1 [some (vR z), l1, l2] [vR z] h Q := Rn_nx pg197 rfl rfl
theorem sX16_walk_1 (hk : hK h a0 = 32) : Rn r 197 1 [l0, l1, l2] [vR (some a0)] h Q ↔ Rn r 197 4 [l0, l1, l2] [vR (hR h a0 5)] h Q := Rn_nx pg197 rfl (if_pos ⟨(hk ▸ Nat.le_refl _), (hk ▸ Nat.le_refl _)⟩)
theorem sX16_walk_4 : Rn r 197 4 [l0, l1, l2] [vR z0] h Q ↔ if z0 = none then Rn r 197 17 [l0, l1, l2] [] h Q else Rn r 197 7 [l0, l1, l2] [] h Q := Rn_if pg197 rfl rfl rfl
theorem sX16_walk_7 : Rn r 197 7 [some (vR z), l1, l2] [] h Q ↔ Rn r 197 8 [some (vR z), l1, l2] [vR z] h Q := Rn_nx pg197 rfl rfl
theorem sX16_walk_8 (hk : hK h a0 = 32) : Rn r 197 8 [l0, l1, l2] [vR (some a0)] h Q ↔ Rn r 197 11 [l0, l1, l2] [vR (hR h a0 5)] h Q := Rn_nx pg197 rfl (if_pos ⟨(hk ▸ Nat.le_refl _), (hk ▸ Nat.le_refl _)⟩)
theorem sX16_walk_11 (hk : hK h a0 = 22) : Rn r 197 11 [l0, l1, l2] [vR (some a0)] h Q ↔ Rn r 197 14 [l0, l1, l2] [vR (hR h a0 5)] h Q := Rn_nx pg197 rfl (if_pos ⟨(hk ▸ Nat.le_refl _), (hk ▸ Nat.le_refl _)⟩)
theorem sX16_walk_14 : Rn r 197 14 [l0, l1, l2] [vR z0] h Q ↔ Rn r 197 21 [l0, l1, l2] [vR z0] h Q := Rn_nx pg197 rfl rfl
theorem sX16_walk_17 : Rn r 197 17 [some (vR z), l1, l2] [] h Q ↔ Rn r 197 18 [some (vR z), l1, l2] [vR z] h Q := Rn_nx pg197 rfl rfl
theorem sX16_walk_18 (hk : hK h a0 = 32) : Rn r 197 18 [l0, l1, l2] [vR (some a0)] h Q ↔ Rn r 197 21 [l0, l1, l2] [vR (hR h a0 6)] h Q := Rn_nx pg197 rfl (if_pos ⟨(hk ▸ Nat.le_refl _), (hk ▸ Nat.le_refl _)⟩)
theorem sX16_walk_21 : Rn r 197 21 [l0, l1, l2] [vR z0] h Q ↔ Rn r 197 22 [l0, l1, some (vR z0)] [] h Q := Rn_nx pg197 rfl rfl
theorem sX16_walk_22 : Rn r 197 22 [l0, l1, some (vR z)] [] h Q ↔ Rn r 197 23 [l0, l1, some (vR z)] [vR z] h Q := Rn_nx pg197 rfl rfl
theorem sX16_walk_23 : Rn r 197 23 [l0, l1, l2] [vR z0] h Q ↔ if z0 = none then Rn r 197 36 [l0, l1, l2] [] h Q else Rn r 197 26 [l0, l1, l2] [] h Q := Rn_if pg197 rfl rfl rfl
theorem sX16_walk_26 : Rn r 197 26 [l0, some (vR z), l2] [] h Q ↔ Rn r 197 27 [l0, some (vR z), l2] [vR z] h Q := Rn_nx pg197 rfl rfl
theorem sX16_walk_27 : Rn r 197 27 [l0, l1, l2] [vR z0] h Q ↔ Rn r 197 28 [l0, l1, l2] [vI 1, vR z0] h Q := Rn_nx pg197 rfl rfl
theorem sX16_walk_28 (hk : hK h a1 = 14) : Rn r 197 28 [l0, l1, l2] [vI x0, vR (some a1)] h Q ↔ Rn r 197 31 [l0, l1, l2] [] (putI h a1 0 x0) Q := Rn_nx pg197 rfl ((if_pos ⟨(hk ▸ Nat.le_refl _), (hk ▸ Nat.le_refl _)⟩).trans rfl)
theorem sX16_walk_31 : Rn r 197 31 [l0, some (vR z), l2] [] h Q ↔ Rn r 197 32 [l0, some (vR z), l2] [vR z] h Q := Rn_nx pg197 rfl rfl
theorem sX16_walk_32 : Rn r 197 32 [l0, l1, some (vR z)] [vR z0] h Q ↔ Rn r 197 33 [l0, l1, some (vR z)] [vR z, vR z0] h Q := Rn_nx pg197 rfl rfl
theorem sX16_walk_33 (hk : hK h a1 = 14) : Rn r 197 33 [l0, l1, l2] [vR z0, vR (some a1)] h Q ↔ Rn r 197 36 [l0, l1, l2] [] (putR h a1 1 z0) Q := Rn_nx pg197 rfl ((if_pos ⟨(hk ▸ Nat.le_refl _), (hk ▸ Nat.le_refl _)⟩).trans rfl)
theorem sX16_walk_36 : Rn r 197 36 [l0, l1, l2] [] h Q ↔ Q (Sum.inl none) h := Rn_end pg197 rfl rfl
/-! 198 ThrowRules$If.walk(LThrowRules$Walk;)V -/
theorem eX17_walk : Cl r 198 [vR z0, vR z1] h Q ↔ Rn r 198 0 [some (vR z0), some (vR z1)] [] h Q := Cl_in pg198 rfl
theorem sX17_walk_0 : Rn r 198 0 [l0, some (vR z)] [] h Q ↔ Rn r 198 1 [l0, some (vR z)] [vR z] h Q := Rn_nx pg198 rfl rfl
theorem sX17_walk_1 : Rn r 198 1 [l0, l1] [vR z0] h Q ↔ Rn r 198 2 [l0, l1] [vI 2, vR z0] h Q := Rn_nx pg198 rfl rfl
theorem sX17_walk_2 (hk : hK h a1 = 14) : Rn r 198 2 [l0, l1] [vI x0, vR (some a1)] h Q ↔ Cl r 253 [vR (some a1), vI x0] h (Kt r 198 5 [l0, l1] [] Q) := Rn_call pg198 rfl (by simp only [am_exec, am_inv, am_pop, am_lk, hk]; rfl) pg253 rfl rfl rfl
theorem sX17_walk_5 : Rn r 198 5 [l0, l1] [vI x0] h Q ↔ Rn r 198 6 [l0, l1] [vI 1, vI x0] h Q := Rn_nx pg198 rfl rfl
theorem sX17_walk_6 : Rn r 198 6 [l0, l1] [vI x0, vI x1] h Q ↔ if x1 ≠ x0 then Rn r 198 20 [l0, l1] [] h Q else Rn r 198 9 [l0, l1] [] h Q := Rn_if pg198 rfl rfl rfl
theorem sX17_walk_9 : Rn r 198 9 [some (vR z), l1] [] h Q ↔ Rn r 198 10 [some (vR z), l1] [vR z] h Q := Rn_nx pg198 rfl rfl
theorem sX17_walk_10 (hk : hK h a0 = 33) : Rn r 198 10 [l0, l1] [vR (some a0)] h Q ↔ Rn r 198 13 [l0, l1] [vR (hR h a0 5)] h Q := Rn_nx pg198 rfl (if_pos ⟨(hk ▸ Nat.le_refl _), (hk ▸ Nat.le_refl _)⟩)
theorem sX17_walk_13 : Rn r 198 13 [l0, some (vR z)] [vR z0] h Q ↔ Rn r 198 14 [l0, some (vR z)] [vR z, vR z0] h Q := Rn_nx pg198 rfl rfl
theorem sX17_walk_14 (hk : hK h a1 = 21) : Rn (r + 1) 198 14 [l0, l1] [vR z0, vR (some a1)] h Q ↔ Cl r 106 [vR (some a1), vR z0] h (Kt (r + 1) 198 17 [l0, l1] [] Q) := Rn_call pg198 rfl (by simp only [am_exec, am_inv, am_pop, am_lk, hk]; rfl) pg106 rfl rfl rfl
theorem sX17_walk_17 : Rn r 198 17 [l0, l1] [] h Q ↔ Rn r 198 35 [l0, l1] [] h Q := Rn_nx pg198 rfl rfl
theorem sX17_walk_20 : Rn r 198 20 [some (vR z), l1] [] h Q ↔ Rn r 198 21 [some (vR z), l1] [vR z] h Q := Rn_nx pg198 rfl rfl
theorem sX17_walk_21 (hk : hK h a0 = 33) : Rn r 198 21 [l0, l1] [vR (some a0)] h Q ↔ Rn r 198 24 [l0, l1] [vR (hR h a0 6)] h Q := Rn_nx pg198 rfl (if_pos ⟨(hk ▸ Nat.le_refl _), (hk ▸ Nat.le_refl _)⟩)
theorem sX17_walk_24 : Rn r 198 24 [l0, l1] [vR z0] h Q ↔ if z0 = none then Rn r 198 35 [l0, l1] [] h Q else Rn r 198 27 [l0, l1] [] h Q := Rn_if pg198 rfl rfl rfl
theorem sX17_walk_27 : Rn r 198 27 [some (vR z), l1] [] h Q ↔ Rn r 198 28 [some (vR z), l1] [vR z] h Q := Rn_nx pg198 rfl rfl
theorem sX17_walk_28 (hk : hK h a0 = 33) : Rn r 198 28 [l0, l1] [vR (some a0)] h Q ↔ Rn r 198 31 [l0, l1] [vR (hR h a0 6)] h Q := Rn_nx pg198 rfl (if_pos ⟨(hk ▸ Nat.le_refl _), (hk ▸ Nat.le_refl _)⟩)
theorem sX17_walk_31 : Rn r 198 31 [l0, some (vR z)] [vR z0] h Q ↔ Rn r 198 32 [l0, some (vR z)] [vR z, vR z0] h Q := Rn_nx pg198 rfl rfl
theorem sX17_walk_32 (hk : hK h a1 = 21) : Rn (r + 1) 198 32 [l0, l1] [vR z0, vR (some a1)] h Q ↔ Cl r 106 [vR (some a1), vR z0] h (Kt (r + 1) 198 35 [l0, l1] [] Q) := Rn_call pg198 rfl (by simp only [am_exec, am_inv, am_pop, am_lk, hk]; rfl) pg106 rfl rfl rfl
theorem sX17_walk_35 : Rn r 198 35 [l0, l1] [] h Q ↔ Q (Sum.inl none) h := Rn_end pg198 rfl rfl
/-! 199 ThrowRules$Loop.walk(LThrowRules$Walk;)V -/
theorem eX18_walk : Cl r 199 [vR z0, vR z1] h Q ↔ Rn r 199 0 [some (vR z0), some (vR z1), none] [] h Q := Cl_in pg199 rfl
theorem sX18_walk_0 : Rn r 199 0 [l0, l1, l2] [] h Q ↔ Rn r 199 1 [l0, l1, l2] [vI 1] h Q := Rn_nx pg199 rfl rfl
theorem sX18_walk_1 : Rn r 199 1 [l0, l1, l2] [vI x0] h Q ↔ Rn r 199 2 [l0, l1, some (vI x0)] [] h Q := Rn_nx pg199 rfl rfl
theorem sX18_walk_2 : Rn r 199 2 [l0, l1, some (vI x)] [] h Q ↔ Rn r 199 3 [l0, l1, some (vI x)] [vI x] h Q := Rn_nx pg199 rfl rfl
theorem sX18_walk_3 : Rn r 199 3 [l0, l1, l2] [vI x0] h Q ↔ if x0 = 0 then Rn r 199 90 [l0, l1, l2] [] h Q else Rn r 199 6 [l0, l1, l2] [] h Q := Rn_if pg199 rfl rfl rfl
theorem sX18_walk_6 : Rn r 199 6 [some (vR z), l1, l2] [] h Q ↔ Rn r 199 7 [some (vR z), l1, l2] [vR z] h Q := Rn_nx pg199 rfl rfl
theorem sX18_walk_7 (hk : hK h a0 = 34) : Rn r 199 7 [l0, l1, l2] [vR (some a0)] h Q ↔ Rn r 199 10 [l0, l1, l2] [vI (hI h a0 5)] h Q := Rn_nx pg199 rfl (if_pos ⟨(hk ▸ Nat.le_refl _), (hk ▸ Nat.le_refl _)⟩)
theorem sX18_walk_10 : Rn r 199 10 [l0, l1, l2] [vI x0] h Q ↔ if x0 = 0 then Rn r 199 22 [l0, l1, l2] [] h Q else Rn r 199 13 [l0, l1, l2] [] h Q := Rn_if pg199 rfl rfl rfl
theorem sX18_walk_13 : Rn r 199 13 [l0, some (vR z), l2] [] h Q ↔ Rn r 199 14 [l0, some (vR z), l2] [vR z] h Q := Rn_nx pg199 rfl rfl
theorem sX18_walk_14 : Rn r 199 14 [l0, l1, l2] [vR z0] h Q ↔ Rn r 199 15 [l0, l1, l2] [vI 2, vR z0] h Q := Rn_nx pg199 rfl rfl
theorem sX18_walk_15 (hk : hK h a1 = 14) : Rn r 199 15 [l0, l1, l2] [vI x0, vR (some a1)] h Q ↔ Cl r 253 [vR (some a1), vI x0] h (Kt r 199 18 [l0, l1, l2] [] Q) := Rn_call pg199 rfl (by simp only [am_exec, am_inv, am_pop, am_lk, hk]; rfl) pg253 rfl rfl rfl
theorem sX18_walk_18 : Rn r 199 18 [l0, l1, l2] [vI x0] h Q ↔ Rn r 199 19 [l0, l1, l2] [vI 1, vI x0] h Q := Rn_nx pg199 rfl rfl
theorem sX18_walk_19 : Rn r 199 19 [l0, l1, l2] [vI x0, vI x1] h Q ↔ if x1 ≠ x0 then Rn r 199 26 [l0, l1, l2] [] h Q else Rn r 199 22 [l0, l1, l2] [] h Q := Rn_if pg199 rfl rfl rfl
theorem sX18_walk_22 : Rn r 199 22 [l0, l1, l2] [] h Q ↔ Rn r 199 23 [l0, l1, l2] [vI 1] h Q := Rn_nx pg199 rfl rfl
theorem sX18_walk_23 : Rn r 199 23 [l0, l1, l2] [vI x0] h Q ↔ Rn r 199 27 [l0, l1, l2] [vI x0] h Q := Rn_nx pg199 rfl rfl
theorem sX18_walk_26 : Rn r 199 26 [l0, l1, l2] [] h Q ↔ Rn r 199 27 [l0, l1, l2] [vI 0] h Q := Rn_nx pg199 rfl rfl
theorem sX18_walk_27 : Rn r 199 27 [l0, l1, l2] [vI x0] h Q ↔ Rn r 199 28 [l0, l1, some (vI x0)] [] h Q := Rn_nx pg199 rfl rfl
theorem sX18_walk_28 : Rn r 199 28 [l0, l1, some (vI x)] [] h Q ↔ Rn r 199 29 [l0, l1, some (vI x)] [vI x] h Q := Rn_nx pg199 rfl rfl
theorem sX18_walk_29 : Rn r 199 29 [l0, l1, l2] [vI x0] h Q ↔ if x0 = 0 then Rn r 199 2 [l0, l1, l2] [] h Q else Rn r 199 32 [l0, l1, l2] [] h Q := Rn_if pg199 rfl rfl rfl
theorem sX18_walk_32 : Rn r 199 32 [some (vR z), l1, l2] [] h Q ↔ Rn r 199 33 [some (vR z), l1, l2] [vR z] h Q := Rn_nx pg199 rfl rfl
theorem sX18_walk_33 (hk : hK h a0 = 34) : Rn r 199 33 [l0, l1, l2] [vR (some a0)] h Q ↔ Rn r 199 36 [l0, l1, l2] [vR (hR h a0 6)] h Q := Rn_nx pg199 rfl (if_pos ⟨(hk ▸ Nat.le_refl _), (hk ▸ Nat.le_refl _)⟩)
theorem sX18_walk_36 : Rn r 199 36 [l0, some (vR z), l2] [vR z0] h Q ↔ Rn r 199 37 [l0, some (vR z), l2] [vR z, vR z0] h Q := Rn_nx pg199 rfl rfl
theorem sX18_walk_37 (hk : hK h a1 = 21) : Rn (r + 1) 199 37 [l0, l1, l2] [vR z0, vR (some a1)] h Q ↔ Cl r 106 [vR (some a1), vR z0] h (Kt (r + 1) 199 40 [l0, l1, l2] [] Q) := Rn_call pg199 rfl (by simp only [am_exec, am_inv, am_pop, am_lk, hk]; rfl) pg106 rfl rfl rfl
theorem sX18_walk_40 : Rn r 199 40 [l0, some (vR z), l2] [] h Q ↔ Rn r 199 41 [l0, some (vR z), l2] [vR z] h Q := Rn_nx pg199 rfl rfl
theorem sX18_walk_41 (hk : hK h a0 = 14) : Rn r 199 41 [l0, l1, l2] [vR (some a0)] h Q ↔ Rn r 199 44 [l0, l1, l2] [vI (hI h a0 0)] h Q := Rn_nx pg199 rfl (if_pos ⟨(hk ▸ Nat.le_refl _), (hk ▸ Nat.le_refl _)⟩)
theorem sX18_walk_44 : Rn r 199 44 [l0, l1, l2] [vI x0] h Q ↔ Rn r 199 45 [l0, l1, l2] [vI 3, vI x0] h Q := Rn_nx pg199 rfl rfl
theorem sX18_walk_45 : Rn r 199 45 [l0, l1, l2] [vI x0, vI x1] h Q ↔ if x1 ≠ x0 then Rn r 199 63 [l0, l1, l2] [] h Q else Rn r 199 48 [l0, l1, l2] [] h Q := Rn_if pg199 rfl rfl rfl
theorem sX18_walk_48 : Rn r 199 48 [l0, some (vR z), l2] [] h Q ↔ Rn r 199 49 [l0, some (vR z), l2] [vR z] h Q := Rn_nx pg199 rfl rfl
theorem sX18_walk_49 (hk : hK h a0 = 14) : Rn r 199 49 [l0, l1, l2] [vR (some a0)] h Q ↔ Rn r 199 52 [l0, l1, l2] [vR (hR h a0 2)] h Q := Rn_nx pg199 rfl (if_pos ⟨(hk ▸ Nat.le_refl _), (hk ▸ Nat.le_refl _)⟩)
theorem sX18_walk_52 : Rn r 199 52 [some (vR z), l1, l2] [vR z0] h Q ↔ Rn r 199 53 [some (vR z), l1, l2] [vR z, vR z0] h Q := Rn_nx pg199 rfl rfl
theorem sX18_walk_53 : Rn r 199 53 [l0, l1, l2] [vR z0, vR z1] h Q ↔ if z1 ≠ z0 then Rn r 199 63 [l0, l1, l2] [] h Q else Rn r 199 56 [l0, l1, l2] [] h Q := Rn_if pg199 rfl rfl rfl
theorem sX18_walk_56 : Rn r 199 56 [l0, some (vR z), l2] [] h Q ↔ Rn r 199 57 [l0, some (vR z), l2] [vR z] h Q := Rn_nx pg199 rfl rfl
theorem sX18_walk_57 : Rn r 199 57 [l0, l1, l2] [vR z0] h Q ↔ Rn r 199 58 [l0, l1, l2] [vI 0, vR z0] h Q := Rn_nx pg199 rfl rfl
theorem sX18_walk_58 (hk : hK h a1 = 14) : Rn r 199 58 [l0, l1, l2] [vI x0, vR (some a1)] h Q ↔ Rn r 199 61 [l0, l1, l2] [] (putI h a1 0 x0) Q := Rn_nx pg199 rfl ((if_pos ⟨(hk ▸ Nat.le_refl _), (hk ▸ Nat.le_refl _)⟩).trans rfl)
theorem sX18_walk_61 : Rn r 199 61 [l0, l1, l2] [] h Q ↔ Rn r 199 62 [l0, l1, l2] [vI 0] h Q := Rn_nx pg199 rfl rfl
theorem sX18_walk_62 : Rn r 199 62 [l0, l1, l2] [vI x0] h Q ↔ Rn r 199 63 [l0, l1, some (vI x0)] [] h Q := Rn_nx pg199 rfl rfl
theorem sX18_walk_63 : Rn r 199 63 [l0, l1, some (vI x)] [] h Q ↔ Rn r 199 64 [l0, l1, some (vI x)] [vI x] h Q := Rn_nx pg199 rfl rfl
theorem sX18_walk_64 : Rn r 199 64 [l0, l1, l2] [vI x0] h Q ↔ if x0 = 0 then Rn r 199 85 [l0, l1, l2] [] h Q else Rn r 199 67 [l0, l1, l2] [] h Q := Rn_if pg199 rfl rfl rfl
theorem sX18_walk_67 : Rn r 199 67 [l0, some (vR z), l2] [] h Q ↔ Rn r 199 68 [l0, some (vR z), l2] [vR z] h Q := Rn_nx pg199 rfl rfl
theorem sX18_walk_68 (hk : hK h a0 = 14) : Rn r 199 68 [l0, l1, l2] [vR (some a0)] h Q ↔ Cl r 159 [vR (some a0)] h (Kt r 199 71 [l0, l1, l2] [] Q) := Rn_call pg199 rfl (by simp only [am_exec, am_inv, am_pop, am_lk, hk]; rfl) pg159 rfl rfl rfl
theorem sX18_walk_71 : Rn r 199 71 [l0, l1, l2] [vI x0] h Q ↔ if x0 = 0 then Rn r 199 85 [l0, l1, l2] [] h Q else Rn r 199 74 [l0, l1, l2] [] h Q := Rn_if pg199 rfl rfl rfl
theorem sX18_walk_74 : Rn r 199 74 [l0, some (vR z), l2] [] h Q ↔ Rn r 199 75 [l0, some (vR z), l2] [vR z] h Q := Rn_nx pg199 rfl rfl
theorem sX18_walk_75 (hk : hK h a0 = 14) : Rn r 199 75 [l0, l1, l2] [vR (some a0)] h Q ↔ Cl r 194 [vR (some a0)] h (Kt r 199 78 [l0, l1, l2] [] Q) := Rn_call pg199 rfl (by simp only [am_exec, am_inv, am_pop, am_lk, hk]; rfl) pg194 rfl rfl rfl
theorem sX18_walk_78 : Rn r 199 78 [l0, l1, l2] [vI x0] h Q ↔ if x0 = 0 then Rn r 199 85 [l0, l1, l2] [] h Q else Rn r 199 81 [l0, l1, l2] [] h Q := Rn_if pg199 rfl rfl rfl
theorem sX18_walk_81 : Rn r 199 81 [l0, l1, l2] [] h Q ↔ Rn r 199 82 [l0, l1, l2] [vI 1] h Q := Rn_nx pg199 rfl rfl
theorem sX18_walk_82 : Rn r 199 82 [l0, l1, l2] [vI x0] h Q ↔ Rn r 199 86 [l0, l1, l2] [vI x0] h Q := Rn_nx pg199 rfl rfl
theorem sX18_walk_85 : Rn r 199 85 [l0, l1, l2] [] h Q ↔ Rn r 199 86 [l0, l1, l2] [vI 0] h Q := Rn_nx pg199 rfl rfl
theorem sX18_walk_86 : Rn r 199 86 [l0, l1, l2] [vI x0] h Q ↔ Rn r 199 87 [l0, l1, some (vI x0)] [] h Q := Rn_nx pg199 rfl rfl
theorem sX18_walk_87 : Rn r 199 87 [l0, l1, l2] [] h Q ↔ Rn r 199 2 [l0, l1, l2] [] h Q := Rn_nx pg199 rfl rfl
theorem sX18_walk_90 : Rn r 199 90 [l0, l1, l2] [] h Q ↔ Q (Sum.inl none) h := Rn_end pg199 rfl rfl
/-! 200 ThrowRules$Break.walk(LThrowRules$Walk;)V -/
theorem eX19_walk : Cl r 200 [vR z0, vR z1] h Q ↔ Rn r 200 0 [some (vR z0), some (vR z1)] [] h Q := Cl_in pg200 rfl
theorem sX19_walk_0 : Rn r 200 0 [some (vR z), l1] [] h Q ↔ Rn r 200 1 [some (vR z), l1] [vR z] h Q := Rn_nx pg200 rfl rfl
theorem sX19_walk_1 (hk : hK h a0 = 35) : Rn r 200 1 [l0, l1] [vR (some a0)] h Q ↔ Rn r 200 4 [l0, l1] [vR (hR h a0 5)] h Q := Rn_nx pg200 rfl (if_pos ⟨(hk ▸ Nat.le_refl _), (hk ▸ Nat.le_refl _)⟩)
theorem sX19_walk_4 : Rn r 200 4 [l0, l1] [vR z0] h Q ↔ if z0 = none then Rn r 200 20 [l0, l1] [] h Q else Rn r 200 7 [l0, l1] [] h Q := Rn_if pg200 rfl rfl rfl
theorem sX19_walk_7 : Rn r 200 7 [l0, some (vR z)] [] h Q ↔ Rn r 200 8 [l0, some (vR z)] [vR z] h Q := Rn_nx pg200 rfl rfl
theorem sX19_walk_8 : Rn r 200 8 [l0, l1] [vR z0] h Q ↔ Rn r 200 9 [l0, l1] [vI 3, vR z0] h Q := Rn_nx pg200 rfl rfl
theorem sX19_walk_9 (hk : hK h a1 = 14) : Rn r 200 9 [l0, l1] [vI x0, vR (some a1)] h Q ↔ Rn r 200 12 [l0, l1] [] (putI h a1 0 x0) Q := Rn_nx pg200 rfl ((if_pos ⟨(hk ▸ Nat.le_refl _), (hk ▸ Nat.le_refl _)⟩).trans rfl)
theorem sX19_walk_12 : Rn r 200 12 [l0, some (vR z)] [] h Q ↔ Rn r 200 13 [l0, some (vR z)] [vR z] h Q := Rn_nx pg200 rfl rfl
theorem sX19_walk_13 : Rn r 200 13 [some (vR z), l1] [vR z0] h Q ↔ Rn r 200 14 [some (vR z), l1] [vR z, vR z0] h Q := Rn_nx pg200 rfl rfl
theorem sX19_walk_14 (hk : hK h a0 = 35) : Rn r 200 14 [l0, l1] [vR (some a0), vR z1] h Q ↔ Rn r 200 17 [l0, l1] [vR (hR h a0 5), vR z1] h Q := Rn_nx pg200 rfl (if_pos ⟨(hk ▸ Nat.le_refl _), (hk ▸ Nat.le_refl _)⟩)
theorem sX19_walk_17 (hk : hK h a1 = 14) : Rn r 200 17 [l0, l1] [vR z0, vR (some a1)] h Q ↔ Rn r 200 20 [l0, l1] [] (putR h a1 2 z0) Q := Rn_nx pg200 rfl ((if_pos ⟨(hk ▸ Nat.le_refl _), (hk ▸ Nat.le_refl _)⟩).trans rfl)
theorem sX19_walk_20 : Rn r 200 20 [l0, l1] [] h Q ↔ Q (Sum.inl none) h := Rn_end pg200 rfl rfl
/-! 201 ThrowRules$Try.walk(LThrowRules$Walk;)V -/
theorem eX20_walk : Cl r 201 [vR z0, vR z1] h Q ↔ Rn r 201 0 [some (vR z0), some (vR z1), none, none, none] [] h Q := Cl_in pg201 rfl
theorem sX20_walk_0 : Rn r 201 0 [some (vR z), l1, l2, l3, l4] [] h Q ↔ Rn r 201 1 [some (vR z), l1, l2, l3, l4] [vR z] h Q := Rn_nx pg201 rfl rfl
theorem sX20_walk_1 (hk : hK h a0 = 36) : Rn r 201 1 [l0, l1, l2, l3, l4] [vR (some a0)] h Q ↔ Rn r 201 4 [l0, l1, l2, l3, l4] [vR (hR h a0 8)] h Q := Rn_nx pg201 rfl (if_pos ⟨(hk ▸ Nat.le_refl _), (hk ▸ Nat.le_refl _)⟩)
theorem sX20_walk_4 : Rn r 201 4 [l0, some (vR z), l2, l3, l4] [vR z0] h Q ↔ Rn r 201 5 [l0, some (vR z), l2, l3, l4] [vR z, vR z0] h Q := Rn_nx pg201 rfl rfl
theorem sX20_walk_5 (hk : hK h a1 = 21) : Rn (r + 1) 201 5 [l0, l1, l2, l3, l4] [vR z0, vR (some a1)] h Q ↔ Cl r 106 [vR (some a1), vR z0] h (Kt (r + 1) 201 8 [l0, l1, l2, l3, l4] [] Q) := Rn_call pg201 rfl (by simp only [am_exec, am_inv, am_pop, am_lk, hk]; rfl) pg106 rfl rfl rfl
theorem sX20_walk_8 : Rn r 201 8 [some (vR z), l1, l2, l3, l4] [] h Q ↔ Rn r 201 9 [some (vR z), l1, l2, l3, l4] [vR z] h Q := Rn_nx pg201 rfl rfl
theorem sX20_walk_9 (hk : hK h a0 = 36) : Rn r 201 9 [l0, l1, l2, l3, l4] [vR (some a0)] h Q ↔ Rn r 201 12 [l0, l1, l2, l3, l4] [vR (hR h a0 7)] h Q := Rn_nx pg201 rfl (if_pos ⟨(hk ▸ Nat.le_refl _), (hk ▸ Nat.le_refl _)⟩)
theorem sX20_walk_12 (hk : hK h a0 = 4) : Rn r 201 12 [l0, l1, l2, l3, l4] [vR (some a0)] h Q ↔ Cl r 34 [vR (some a0)] h (Kt r 201 15 [l0, l1, l2, l3, l4] [] Q) := Rn_call pg201 rfl (by simp only [am_exec, am_inv, am_pop, am_lk, hk]; rfl) pg34 rfl rfl rfl
theorem sX20_walk_15 : Rn r 201 15 [l0, l1, l2, l3, l4] [vI x0] h Q ↔ Rn r 201 16 [l0, l1, l2, l3, l4] [vI 1, vI x0] h Q := Rn_nx pg201 rfl rfl
theorem sX20_walk_16 : Rn r 201 16 [l0, l1, l2, l3, l4] [vI x0, vI x1] h Q ↔ Rn r 201 17 [l0, l1, l2, l3, l4] [vI (x1 - x0)] h Q := Rn_nx pg201 rfl rfl
theorem sX20_walk_17 : Rn r 201 17 [l0, l1, l2, l3, l4] [vI x0] h Q ↔ Rn r 201 18 [l0, l1, some (vI x0), l3, l4] [] h Q := Rn_nx pg201 rfl rfl
theorem sX20_walk_18 : Rn r 201 18 [l0, l1, some (vI x), l3, l4] [] h Q ↔ Rn r 201 19 [l0, l1, some (vI x), l3, l4] [vI x] h Q := Rn_nx pg201 rfl rfl
theorem sX20_walk_19 : Rn r 201 19 [l0, l1, l2, l3, l4] [vI x0] h Q ↔ if x0 < 0 then Rn r 201 62 [l0, l1, l2, l3, l4] [] h Q else Rn r 201 22 [l0, l1, l2, l3, l4] [] h Q := Rn_if pg201 rfl rfl rfl
theorem sX20_walk_22 : Rn r 201 22 [l0, some (vR z), l2, l3, l4] [] h Q ↔ Rn r 201 23 [l0, some (vR z), l2, l3, l4] [vR z] h Q := Rn_nx pg201 rfl rfl
theorem sX20_walk_23 (hk : hK h a0 = 14) : Rn r 201 23 [l0, l1, l2, l3, l4] [vR (some a0)] h Q ↔ Rn r 201 26 [l0, l1, l2, l3, l4] [vI (hI h a0 0)] h Q := Rn_nx pg201 rfl (if_pos ⟨(hk ▸ Nat.le_refl _), (hk ▸ Nat.le_refl _)⟩)
theorem sX20_walk_26 : Rn r 201 26 [l0, l1, l2, l3, l4] [vI x0] h Q ↔ Rn r 201 27 [l0, l1, l2, l3, l4] [vI 4, vI x0] h Q := Rn_nx pg201 rfl rfl
theorem sX20_walk_27 : Rn r 201 27 [l0, l1, l2, l3, l4] [vI x0, vI x1] h Q ↔ if x1 = x0 then Rn r 201 62 [l0, l1, l2, l3, l4] [] h Q else Rn r 201 30 [l0, l1, l2, l3, l4] [] h Q := Rn_if pg201 rfl rfl rfl
theorem sX20_walk_30 : Rn r 201 30 [some (vR z), l1, l2, l3, l4] [] h Q ↔ Rn r 201 31 [some (vR z), l1, l2, l3, l4] [vR z] h Q := Rn_nx pg201 rfl rfl
theorem sX20_walk_31 (hk : hK h a0 = 36) : Rn r 201 31 [l0, l1, l2, l3, l4] [vR (some a0)] h Q ↔ Rn r 201 34 [l0, l1, l2, l3, l4] [vR (hR h a0 7)] h Q := Rn_nx pg201 rfl (if_pos ⟨(hk ▸ Nat.le_refl _), (hk ▸ Nat.le_refl _)⟩)
theorem sX20_walk_34 : Rn r 201 34 [l0, l1, some (vI x), l3, l4] [vR z0] h Q ↔ Rn r 201 35 [l0, l1, some (vI x), l3, l4] [vI x, vR z0] h Q := Rn_nx pg201 rfl rfl
theorem sX20_walk_35 (hk : hK h a1 = 4) : Rn r 201 35 [l0, l1, l2, l3, l4] [vI x0, vR (some a1)] h Q ↔ Cl r 43 [vR (some a1), vI x0] h (Kt r 201 38 [l0, l1, l2, l3, l4] [] Q) := Rn_call pg201 rfl (by simp only [am_exec, am_inv, am_pop, am_lk, hk]; rfl) pg43 rfl rfl rfl
theorem sX20_walk_38 : Rn r 201 38 [l0, l1, l2, l3, l4] [vR z0] h Q ↔ if z0 = none then Rn r 201 56 [l0, l1, l2, l3, l4] [] h Q else Rn r 201 41 [l0, l1, l2, l3, l4] [] h Q := Rn_if pg201 rfl rfl rfl
theorem sX20_walk_41 : Rn r 201 41 [l0, some (vR z), l2, l3, l4] [] h Q ↔ Rn r 201 42 [l0, some (vR z), l2, l3, l4] [vR z] h Q := Rn_nx pg201 rfl rfl
theorem sX20_walk_42 : Rn r 201 42 [some (vR z), l1, l2, l3, l4] [vR z0] h Q ↔ Rn r 201 43 [some (vR z), l1, l2, l3, l4] [vR z, vR z0] h Q := Rn_nx pg201 rfl rfl
theorem sX20_walk_43 (hk : hK h a0 = 36) : Rn r 201 43 [l0, l1, l2, l3, l4] [vR (some a0), vR z1] h Q ↔ Rn r 201 46 [l0, l1, l2, l3, l4] [vR (hR h a0 7), vR z1] h Q := Rn_nx pg201 rfl (if_pos ⟨(hk ▸ Nat.le_refl _), (hk ▸ Nat.le_refl _)⟩)
theorem sX20_walk_46 : Rn r 201 46 [l0, l1, some (vI x), l3, l4] [vR z0, vR z1] h Q ↔ Rn r 201 47 [l0, l1, some (vI x), l3, l4] [vI x, vR z0, vR z1] h Q := Rn_nx pg201 rfl rfl
theorem sX20_walk_47 (hk : hK h a1 = 4) : Rn r 201 47 [l0, l1, l2, l3, l4] [vI x0, vR (some a1), vR z2] h Q ↔ Cl r 43 [vR (some a1), vI x0] h (Kt r 201 50 [l0, l1, l2, l3, l4] [vR z2] Q) := Rn_call pg201 rfl (by simp only [am_exec, am_inv, am_pop, am_lk, hk]; rfl) pg43 rfl rfl rfl
theorem sX20_walk_50_n : Rn r 201 50 [l0, l1, l2, l3, l4] [vR none, vR z1] h Q ↔ Rn r 201 53 [l0, l1, l2, l3, l4] [vR none, vR z1] h Q := Rn_nx pg201 rfl rfl
theorem sX20_walk_50 (hk : hK h a0 ∈ [18]) : Rn r 201 50 [l0, l1, l2, l3, l4] [vR (some a0), vR z1] h Q ↔ Rn r 201 53 [l0, l1, l2, l3, l4] [vR (some a0), vR z1] h Q := Rn_nx pg201 rfl (if_pos hk)
theorem sX20_walk_53 (hk : hK h a1 = 14) : Rn r 201 53 [l0, l1, l2, l3, l4] [vR z0, vR (some a1)] h Q ↔ Cl r 255 [vR (some a1), vR z0] h (Kt r 201 56 [l0, l1, l2, l3, l4] [] Q) := Rn_call pg201 rfl (by simp only [am_exec, am_inv, am_pop, am_lk, hk]; rfl) pg255 rfl rfl rfl
theorem sX20_walk_56 : Rn r 201 56 [l0, l1, some (vI x), l3, l4] [] h Q ↔ Rn r 201 59 [l0, l1, some (vI (x + (-1))), l3, l4] [] h Q := Rn_nx pg201 rfl rfl
theorem sX20_walk_59 : Rn r 201 59 [l0, l1, l2, l3, l4] [] h Q ↔ Rn r 201 18 [l0, l1, l2, l3, l4] [] h Q := Rn_nx pg201 rfl rfl
theorem sX20_walk_62 : Rn r 201 62 [l0, l1, l2, l3, l4] [] h Q ↔ Rn r 201 63 [l0, l1, l2, l3, l4] [vI 0] h Q := Rn_nx pg201 rfl rfl
theorem sX20_walk_63 : Rn r 201 63 [l0, l1, l2, l3, l4] [vI x0] h Q ↔ Rn r 201 64 [l0, l1, some (vI x0), l3, l4] [] h Q := Rn_nx pg201 rfl rfl
theorem sX20_walk_64 : Rn r 201 64 [l0, l1, some (vI x), l3, l4] [] h Q ↔ Rn r 201 65 [l0, l1, some (vI x), l3, l4] [vI x] h Q := Rn_nx pg201 rfl rfl
theorem sX20_walk_65 : Rn r 201 65 [some (vR z), l1, l2, l3, l4] [vI x0] h Q ↔ Rn r 201 66 [some (vR z), l1, l2, l3, l4] [vR z, vI x0] h Q := Rn_nx pg201 rfl rfl
theorem sX20_walk_66 (hk : hK h a0 = 36) : Rn r 201 66 [l0, l1, l2, l3, l4] [vR (some a0), vI x1] h Q ↔ Rn r 201 69 [l0, l1, l2, l3, l4] [vR (hR h a0 9), vI x1] h Q := Rn_nx pg201 rfl (if_pos ⟨(hk ▸ Nat.le_refl _), (hk ▸ Nat.le_refl _)⟩)
theorem sX20_walk_69 (hk : hK h a0 = 4) : Rn r 201 69 [l0, l1, l2, l3, l4] [vR (some a0), vI x1] h Q ↔ Cl r 34 [vR (some a0)] h (Kt r 201 72 [l0, l1, l2, l3, l4] [vI x1] Q) := Rn_call pg201 rfl (by simp only [am_exec, am_inv, am_pop, am_lk, hk]; rfl) pg34 rfl rfl rfl
theorem sX20_walk_72 : Rn r 201 72 [l0, l1, l2, l3, l4] [vI x0, vI x1] h Q ↔ if x0 ≤ x1 then Rn r 201 159 [l0, l1, l2, l3, l4] [] h Q else Rn r 201 75 [l0, l1, l2, l3, l4] [] h Q := Rn_if pg201 rfl rfl rfl
theorem sX20_walk_75 : Rn r 201 75 [l0, some (vR z), l2, l3, l4] [] h Q ↔ Rn r 201 76 [l0, some (vR z), l2, l3, l4] [vR z] h Q := Rn_nx pg201 rfl rfl
theorem sX20_walk_76 (hk : hK h a0 = 14) : Rn r 201 76 [l0, l1, l2, l3, l4] [vR (some a0)] h Q ↔ Rn r 201 79 [l0, l1, l2, l3, l4] [vI (hI h a0 0)] h Q := Rn_nx pg201 rfl (if_pos ⟨(hk ▸ Nat.le_refl _), (hk ▸ Nat.le_refl _)⟩)
theorem sX20_walk_79 : Rn r 201 79 [l0, l1, l2, l3, l4] [vI x0] h Q ↔ Rn r 201 80 [l0, l1, l2, l3, l4] [vI 1, vI x0] h Q := Rn_nx pg201 rfl rfl
theorem sX20_walk_80 : Rn r 201 80 [l0, l1, l2, l3, l4] [vI x0, vI x1] h Q ↔ if x1 ≠ x0 then Rn r 201 159 [l0, l1, l2, l3, l4] [] h Q else Rn r 201 83 [l0, l1, l2, l3, l4] [] h Q := Rn_if pg201 rfl rfl rfl
theorem sX20_walk_83 : Rn r 201 83 [some (vR z), l1, l2, l3, l4] [] h Q ↔ Rn r 201 84 [some (vR z), l1, l2, l3, l4] [vR z] h Q := Rn_nx pg201 rfl rfl
theorem sX20_walk_84 (hk : hK h a0 = 36) : Rn r 201 84 [l0, l1, l2, l3, l4] [vR (some a0)] h Q ↔ Rn r 201 87 [l0, l1, l2, l3, l4] [vR (hR h a0 9)] h Q := Rn_nx pg201 rfl (if_pos ⟨(hk ▸ Nat.le_refl _), (hk ▸ Nat.le_refl _)⟩)
theorem sX20_walk_87 : Rn r 201 87 [l0, l1, some (vI x), l3, l4] [vR z0] h Q ↔ Rn r 201 88 [l0, l1, some (vI x), l3, l4] [vI x, vR z0] h Q := Rn_nx pg201 rfl rfl
theorem sX20_walk_88 (hk : hK h a1 = 4) : Rn r 201 88 [l0, l1, l2, l3, l4] [vI x0, vR (some a1)] h Q ↔ Cl r 43 [vR (some a1), vI x0] h (Kt r 201 91 [l0, l1, l2, l3, l4] [] Q) := Rn_call pg201 rfl (by simp only [am_exec, am_inv, am_pop, am_lk, hk]; rfl) pg43 rfl rfl rfl
theorem sX20_walk_91_n : Rn r 201 91 [l0, l1, l2, l3, l4] [vR none] h Q ↔ Rn r 201 94 [l0, l1, l2, l3, l4] [vR none] h Q := Rn_nx pg201 rfl rfl
theorem sX20_walk_91 (hk : hK h a0 ∈ [22]) : Rn r 201 91 [l0, l1, l2, l3, l4] [vR (some a0)] h Q ↔ Rn r 201 94 [l0, l1, l2, l3, l4] [vR (some a0)] h Q := Rn_nx pg201 rfl (if_pos hk)
theorem sX20_walk_94 : Rn r 201 94 [l0, some (vR z), l2, l3, l4] [vR z0] h Q ↔ Rn r 201 95 [l0, some (vR z), l2, l3, l4] [vR z, vR z0] h Q := Rn_nx pg201 rfl rfl
theorem sX20_walk_95 (hk : hK h a0 = 14) : Rn r 201 95 [l0, l1, l2, l3, l4] [vR (some a0), vR z1] h Q ↔ Rn r 201 98 [l0, l1, l2, l3, l4] [vR (hR h a0 1), vR z1] h Q := Rn_nx pg201 rfl (if_pos ⟨(hk ▸ Nat.le_refl _), (hk ▸ Nat.le_refl _)⟩)
theorem sX20_walk_98 (hk : hK h a1 = 22) : Rn r 201 98 [l0, l1, l2, l3, l4] [vR z0, vR (some a1)] h Q ↔ Cl r 256 [vR (some a1), vR z0] h (Kt r 201 101 [l0, l1, l2, l3, l4] [] Q) := Rn_call pg201 rfl (by simp only [am_exec, am_inv, am_pop, am_lk, hk]; rfl) pg256 rfl rfl rfl
theorem sX20_walk_101 : Rn r 201 101 [l0, l1, l2, l3, l4] [vI x0] h Q ↔ if x0 = 0 then Rn r 201 153 [l0, l1, l2, l3, l4] [] h Q else Rn r 201 104 [l0, l1, l2, l3, l4] [] h Q := Rn_if pg201 rfl rfl rfl
theorem sX20_walk_104 : Rn r 201 104 [some (vR z), l1, l2, l3, l4] [] h Q ↔ Rn r 201 105 [some (vR z), l1, l2, l3, l4] [vR z] h Q := Rn_nx pg201 rfl rfl
theorem sX20_walk_105 (hk : hK h a0 = 36) : Rn r 201 105 [l0, l1, l2, l3, l4] [vR (some a0)] h Q ↔ Rn r 201 108 [l0, l1, l2, l3, l4] [vR (hR h a0 9)] h Q := Rn_nx pg201 rfl (if_pos ⟨(hk ▸ Nat.le_refl _), (hk ▸ Nat.le_refl _)⟩)
theorem sX20_walk_108 : Rn r 201 108 [l0, l1, some (vI x), l3, l4] [vR z0] h Q ↔ Rn r 201 109 [l0, l1, some (vI x), l3, l4] [vI x, vR z0] h Q := Rn_nx pg201 rfl rfl
theorem sX20_walk_109 (hk : hK h a1 = 4) : Rn r 201 109 [l0, l1, l2, l3, l4] [vI x0, vR (some a1)] h Q ↔ Cl r 43 [vR (some a1), vI x0] h (Kt r 201 112 [l0, l1, l2, l3, l4] [] Q) := Rn_call pg201 rfl (by simp only [am_exec, am_inv, am_pop, am_lk, hk]; rfl) pg43 rfl rfl rfl
theorem sX20_walk_112_n : Rn r 201 112 [l0, l1, l2, l3, l4] [vR none] h Q ↔ Rn r 201 115 [l0, l1, l2, l3, l4] [vR none] h Q := Rn_nx pg201 rfl rfl
theorem sX20_walk_112 (hk : hK h a0 ∈ [22]) : Rn r 201 112 [l0, l1, l2, l3, l4] [vR (some a0)] h Q ↔ Rn r 201 115 [l0, l1, l2, l3, l4] [vR (some a0)] h Q := Rn_nx pg201 rfl (if_pos hk)
theorem sX20_walk_115 : Rn r 201 115 [l0, some (vR z), l2, l3, l4] [vR z0] h Q ↔ Rn r 201 116 [l0, some (vR z), l2, l3, l4] [vR z, vR z0] h Q := Rn_nx pg201 rfl rfl
theorem sX20_walk_116 (hk : hK h a0 = 14) : Rn r 201 116 [l0, l1, l2, l3, l4] [vR (some a0), vR z1] h Q ↔ Rn r 201 119 [l0, l1, l2, l3, l4] [vR (hR h a0 1), vR z1] h Q := Rn_nx pg201 rfl (if_pos ⟨(hk ▸ Nat.le_refl _), (hk ▸ Nat.le_refl _)⟩)
theorem sX20_walk_119 (hk : hK h a1 = 22) : Rn r 201 119 [l0, l1, l2, l3, l4] [vR z0, vR (some a1)] h Q ↔ Rn r 201 122 [l0, l1, l2, l3, l4] [] (putR h a1 5 z0) Q := Rn_nx pg201 rfl ((if_pos ⟨(hk ▸ Nat.le_refl _), (hk ▸ Nat.le_refl _)⟩).trans rfl)
theorem sX20_walk_122 : Rn r 201 122 [l0, some (vR z), l2, l3, l4] [] h Q ↔ Rn r 201 123 [l0, some (vR z), l2, l3, l4] [vR z] h Q := Rn_nx pg201 rfl rfl
theorem sX20_walk_123 : Rn r 201 123 [l0, l1, l2, l3, l4] [vR z0] h Q ↔ Rn r 201 124 [l0, l1, l2, l3, l4] [vI 0, vR z0] h Q := Rn_nx pg201 rfl rfl
theorem sX20_walk_124 (hk : hK h a1 = 14) : Rn r 201 124 [l0, l1, l2, l3, l4] [vI x0, vR (some a1)] h Q ↔ Rn r 201 127 [l0, l1, l2, l3, l4] [] (putI h a1 0 x0) Q := Rn_nx pg201 rfl ((if_pos ⟨(hk ▸ Nat.le_refl _), (hk ▸ Nat.le_refl _)⟩).trans rfl)
theorem sX20_walk_127 : Rn r 201 127 [some (vR z), l1, l2, l3, l4] [] h Q ↔ Rn r 201 128 [some (vR z), l1, l2, l3, l4] [vR z] h Q := Rn_nx pg201 rfl rfl
theorem sX20_walk_128 (hk : hK h a0 = 36) : Rn r 201 128 [l0, l1, l2, l3, l4] [vR (some a0)] h Q ↔ Rn r 201 131 [l0, l1, l2, l3, l4] [vR (hR h a0 9)] h Q := Rn_nx pg201 rfl (if_pos ⟨(hk ▸ Nat.le_refl _), (hk ▸ Nat.le_refl _)⟩)
theorem sX20_walk_131 : Rn r 201 131 [l0, l1, some (vI x), l3, l4] [vR z0] h Q ↔ Rn r 201 132 [l0, l1, some (vI x), l3, l4] [vI x, vR z0] h Q := Rn_nx pg201 rfl rfl
theorem sX20_walk_132 (hk : hK h a1 = 4) : Rn r 201 132 [l0, l1, l2, l3, l4] [vI x0, vR (some a1)] h Q ↔ Cl r 43 [vR (some a1), vI x0] h (Kt r 201 135 [l0, l1, l2, l3, l4] [] Q) := Rn_call pg201 rfl (by simp only [am_exec, am_inv, am_pop, am_lk, hk]; rfl) pg43 rfl rfl rfl
theorem sX20_walk_135_n : Rn r 201 135 [l0, l1, l2, l3, l4] [vR none] h Q ↔ Rn r 201 138 [l0, l1, l2, l3, l4] [vR none] h Q := Rn_nx pg201 rfl rfl
theorem sX20_walk_135 (hk : hK h a0 ∈ [22]) : Rn r 201 135 [l0, l1, l2, l3, l4] [vR (some a0)] h Q ↔ Rn r 201 138 [l0, l1, l2, l3, l4] [vR (some a0)] h Q := Rn_nx pg201 rfl (if_pos hk)
theorem sX20_walk_138 (hk : hK h a0 = 22) : Rn r 201 138 [l0, l1, l2, l3, l4] [vR (some a0)] h Q ↔ Rn r 201 141 [l0, l1, l2, l3, l4] [vR (hR h a0 3)] h Q := Rn_nx pg201 rfl (if_pos ⟨(hk ▸ Nat.le_refl _), (hk ▸ Nat.le_refl _)⟩)
theorem sX20_walk_141 : Rn r 201 141 [l0, some (vR z), l2, l3, l4] [vR z0] h Q ↔ Rn r 201 142 [l0, some (vR z), l2, l3, l4] [vR z, vR z0] h Q := Rn_nx pg201 rfl rfl
theorem sX20_walk_142 (hk : hK h a1 = 21) : Rn (r + 1) 201 142 [l0, l1, l2, l3, l4] [vR z0, vR (some a1)] h Q ↔ Cl r 106 [vR (some a1), vR z0] h (Kt (r + 1) 201 145 [l0, l1, l2, l3, l4] [] Q) := Rn_call pg201 rfl (by simp only [am_exec, am_inv, am_pop, am_lk, hk]; rfl) pg106 rfl rfl rfl
theorem sX20_walk_145 : Rn r 201 145 [some (vR z), l1, l2, l3, l4] [] h Q ↔ Rn r 201 146 [some (vR z), l1, l2, l3, l4] [vR z] h Q := Rn_nx pg201 rfl rfl
theorem sX20_walk_146 (hk : hK h a0 = 36) : Rn r 201 146 [l0, l1, l2, l3, l4] [vR (some a0)] h Q ↔ Rn r 201 149 [l0, l1, l2, l3, l4] [vR (hR h a0 9)] h Q := Rn_nx pg201 rfl (if_pos ⟨(hk ▸ Nat.le_refl _), (hk ▸ Nat.le_refl _)⟩)
theorem sX20_walk_149 (hk : hK h a0 = 4) : Rn r 201 149 [l0, l1, l2, l3, l4] [vR (some a0)] h Q ↔ Cl r 34 [vR (some a0)] h (Kt r 201 152 [l0, l1, l2, l3, l4] [] Q) := Rn_call pg201 rfl (by simp only [am_exec, am_inv, am_pop, am_lk, hk]; rfl) pg34 rfl rfl rfl
theorem sX20_walk_152 : Rn r 201 152 [l0, l1, l2, l3, l4] [vI x0] h Q ↔ Rn r 201 153 [l0, l1, some (vI x0), l3, l4] [] h Q := Rn_nx pg201 rfl rfl
theorem sX20_walk_153 : Rn r 201 153 [l0, l1, some (vI x), l3, l4] [] h Q ↔ Rn r 201 156 [l0, l1, some (vI (x + 1)), l3, l4] [] h Q := Rn_nx pg201 rfl rfl
theorem sX20_walk_156 : Rn r 201 156 [l0, l1, l2, l3, l4] [] h Q ↔ Rn r 201 64 [l0, l1, l2, l3, l4] [] h Q := Rn_nx pg201 rfl rfl
theorem sX20_walk_159 : Rn r 201 159 [some (vR z), l1, l2, l3, l4] [] h Q ↔ Rn r 201 160 [some (vR z), l1, l2, l3, l4] [vR z] h Q := Rn_nx pg201 rfl rfl
theorem sX20_walk_160 (hk : hK h a0 = 36) : Rn r 201 160 [l0, l1, l2, l3, l4] [vR (some a0)] h Q ↔ Rn r 201 163 [l0, l1, l2, l3, l4] [vR (hR h a0 10)] h Q := Rn_nx pg201 rfl (if_pos ⟨(hk ▸ Nat.le_refl _), (hk ▸ Nat.le_refl _)⟩)
theorem sX20_walk_163 : Rn r 201 163 [l0, l1, l2, l3, l4] [vR z0] h Q ↔ if z0 = none then Rn r 201 226 [l0, l1, l2, l3, l4] [] h Q else Rn r 201 166 [l0, l1, l2, l3, l4] [] h Q := Rn_if pg201 rfl rfl rfl
theorem sX20_walk_166 : Rn r 201 166 [l0, some (vR z), l2, l3, l4] [] h Q ↔ Rn r 201 167 [l0, some (vR z), l2, l3, l4] [vR z] h Q := Rn_nx pg201 rfl rfl
theorem sX20_walk_167 (hk : hK h a0 = 14) : Rn r 201 167 [l0, l1, l2, l3, l4] [vR (some a0)] h Q ↔ Rn r 201 170 [l0, l1, l2, l3, l4] [vI (hI h a0 0)] h Q := Rn_nx pg201 rfl (if_pos ⟨(hk ▸ Nat.le_refl _), (hk ▸ Nat.le_refl _)⟩)
theorem sX20_walk_170 : Rn r 201 170 [l0, l1, l2, l3, l4] [vI x0] h Q ↔ Rn r 201 171 [l0, l1, l2, l3, l4] [vI 4, vI x0] h Q := Rn_nx pg201 rfl rfl
theorem sX20_walk_171 : Rn r 201 171 [l0, l1, l2, l3, l4] [vI x0, vI x1] h Q ↔ if x1 = x0 then Rn r 201 226 [l0, l1, l2, l3, l4] [] h Q else Rn r 201 174 [l0, l1, l2, l3, l4] [] h Q := Rn_if pg201 rfl rfl rfl
theorem sX20_walk_174 : Rn r 201 174 [l0, some (vR z), l2, l3, l4] [] h Q ↔ Rn r 201 175 [l0, some (vR z), l2, l3, l4] [vR z] h Q := Rn_nx pg201 rfl rfl
theorem sX20_walk_175 (hk : hK h a0 = 14) : Rn r 201 175 [l0, l1, l2, l3, l4] [vR (some a0)] h Q ↔ Rn r 201 178 [l0, l1, l2, l3, l4] [vI (hI h a0 0)] h Q := Rn_nx pg201 rfl (if_pos ⟨(hk ▸ Nat.le_refl _), (hk ▸ Nat.le_refl _)⟩)
theorem sX20_walk_178 : Rn r 201 178 [l0, l1, l2, l3, l4] [vI x0] h Q ↔ Rn r 201 179 [l0, l1, some (vI x0), l3, l4] [] h Q := Rn_nx pg201 rfl rfl
theorem sX20_walk_179 : Rn r 201 179 [l0, some (vR z), l2, l3, l4] [] h Q ↔ Rn r 201 180 [l0, some (vR z), l2, l3, l4] [vR z] h Q := Rn_nx pg201 rfl rfl
theorem sX20_walk_180 (hk : hK h a0 = 14) : Rn r 201 180 [l0, l1, l2, l3, l4] [vR (some a0)] h Q ↔ Rn r 201 183 [l0, l1, l2, l3, l4] [vR (hR h a0 1)] h Q := Rn_nx pg201 rfl (if_pos ⟨(hk ▸ Nat.le_refl _), (hk ▸ Nat.le_refl _)⟩)
theorem sX20_walk_183 : Rn r 201 183 [l0, l1, l2, l3, l4] [vR z0] h Q ↔ Rn r 201 184 [l0, l1, l2, some (vR z0), l4] [] h Q := Rn_nx pg201 rfl rfl
theorem sX20_walk_184 : Rn r 201 184 [l0, some (vR z), l2, l3, l4] [] h Q ↔ Rn r 201 185 [l0, some (vR z), l2, l3, l4] [vR z] h Q := Rn_nx pg201 rfl rfl
theorem sX20_walk_185 (hk : hK h a0 = 14) : Rn r 201 185 [l0, l1, l2, l3, l4] [vR (some a0)] h Q ↔ Rn r 201 188 [l0, l1, l2, l3, l4] [vR (hR h a0 2)] h Q := Rn_nx pg201 rfl (if_pos ⟨(hk ▸ Nat.le_refl _), (hk ▸ Nat.le_refl _)⟩)
theorem sX20_walk_188 : Rn r 201 188 [l0, l1, l2, l3, l4] [vR z0] h Q ↔ Rn r 201 190 [l0, l1, l2, l3, some (vR z0)] [] h Q := Rn_nx pg201 rfl rfl
theorem sX20_walk_190 : Rn r 201 190 [l0, some (vR z), l2, l3, l4] [] h Q ↔ Rn r 201 191 [l0, some (vR z), l2, l3, l4] [vR z] h Q := Rn_nx pg201 rfl rfl
theorem sX20_walk_191 : Rn r 201 191 [l0, l1, l2, l3, l4] [vR z0] h Q ↔ Rn r 201 192 [l0, l1, l2, l3, l4] [vI 0, vR z0] h Q := Rn_nx pg201 rfl rfl
theorem sX20_walk_192 (hk : hK h a1 = 14) : Rn r 201 192 [l0, l1, l2, l3, l4] [vI x0, vR (some a1)] h Q ↔ Rn r 201 195 [l0, l1, l2, l3, l4] [] (putI h a1 0 x0) Q := Rn_nx pg201 rfl ((if_pos ⟨(hk ▸ Nat.le_refl _), (hk ▸ Nat.le_refl _)⟩).trans rfl)
theorem sX20_walk_195 : Rn r 201 195 [some (vR z), l1, l2, l3, l4] [] h Q ↔ Rn r 201 196 [some (vR z), l1, l2, l3, l4] [vR z] h Q := Rn_nx pg201 rfl rfl
theorem sX20_walk_196 (hk : hK h a0 = 36) : Rn r 201 196 [l0, l1, l2, l3, l4] [vR (some a0)] h Q ↔ Rn r 201 199 [l0, l1, l2, l3, l4] [vR (hR h a0 10)] h Q := Rn_nx pg201 rfl (if_pos ⟨(hk ▸ Nat.le_refl _), (hk ▸ Nat.le_refl _)⟩)
theorem sX20_walk_199 : Rn r 201 199 [l0, some (vR z), l2, l3, l4] [vR z0] h Q ↔ Rn r 201 200 [l0, some (vR z), l2, l3, l4] [vR z, vR z0] h Q := Rn_nx pg201 rfl rfl
theorem sX20_walk_200 (hk : hK h a1 = 21) : Rn (r + 1) 201 200 [l0, l1, l2, l3, l4] [vR z0, vR (some a1)] h Q ↔ Cl r 106 [vR (some a1), vR z0] h (Kt (r + 1) 201 203 [l0, l1, l2, l3, l4] [] Q) := Rn_call pg201 rfl (by simp only [am_exec, am_inv, am_pop, am_lk, hk]; rfl) pg106 rfl rfl rfl
theorem sX20_walk_203 : Rn r 201 203 [l0, some (vR z), l2, l3, l4] [] h Q ↔ Rn r 201 204 [l0, some (vR z), l2, l3, l4] [vR z] h Q := Rn_nx pg201 rfl rfl
theorem sX20_walk_204 (hk : hK h a0 = 14) : Rn r 201 204 [l0, l1, l2, l3, l4] [vR (some a0)] h Q ↔ Rn r 201 207 [l0, l1, l2, l3, l4] [vI (hI h a0 0)] h Q := Rn_nx pg201 rfl (if_pos ⟨(hk ▸ Nat.le_refl _), (hk ▸ Nat.le_refl _)⟩)
theorem sX20_walk_207 : Rn r 201 207 [l0, l1, l2, l3, l4] [vI x0] h Q ↔ if x0 ≠ 0 then Rn r 201 226 [l0, l1, l2, l3, l4] [] h Q else Rn r 201 210 [l0, l1, l2, l3, l4] [] h Q := Rn_if pg201 rfl rfl rfl
theorem sX20_walk_210 : Rn r 201 210 [l0, some (vR z), l2, l3, l4] [] h Q ↔ Rn r 201 211 [l0, some (vR z), l2, l3, l4] [vR z] h Q := Rn_nx pg201 rfl rfl
theorem sX20_walk_211 : Rn r 201 211 [l0, l1, some (vI x), l3, l4] [vR z0] h Q ↔ Rn r 201 212 [l0, l1, some (vI x), l3, l4] [vI x, vR z0] h Q := Rn_nx pg201 rfl rfl
theorem sX20_walk_212 (hk : hK h a1 = 14) : Rn r 201 212 [l0, l1, l2, l3, l4] [vI x0, vR (some a1)] h Q ↔ Rn r 201 215 [l0, l1, l2, l3, l4] [] (putI h a1 0 x0) Q := Rn_nx pg201 rfl ((if_pos ⟨(hk ▸ Nat.le_refl _), (hk ▸ Nat.le_refl _)⟩).trans rfl)
theorem sX20_walk_215 : Rn r 201 215 [l0, some (vR z), l2, l3, l4] [] h Q ↔ Rn r 201 216 [l0, some (vR z), l2, l3, l4] [vR z] h Q := Rn_nx pg201 rfl rfl
theorem sX20_walk_216 : Rn r 201 216 [l0, l1, l2, some (vR z), l4] [vR z0] h Q ↔ Rn r 201 217 [l0, l1, l2, some (vR z), l4] [vR z, vR z0] h Q := Rn_nx pg201 rfl rfl
theorem sX20_walk_217 (hk : hK h a1 = 14) : Rn r 201 217 [l0, l1, l2, l3, l4] [vR z0, vR (some a1)] h Q ↔ Rn r 201 220 [l0, l1, l2, l3, l4] [] (putR h a1 1 z0) Q := Rn_nx pg201 rfl ((if_pos ⟨(hk ▸ Nat.le_refl _), (hk ▸ Nat.le_refl _)⟩).trans rfl)
theorem sX20_walk_220 : Rn r 201 220 [l0, some (vR z), l2, l3, l4] [] h Q ↔ Rn r 201 221 [l0, some (vR z), l2, l3, l4] [vR z] h Q := Rn_nx pg201 rfl rfl
theorem sX20_walk_221 : Rn r 201 221 [l0, l1, l2, l3, some (vR z)] [vR z0] h Q ↔ Rn r 201 223 [l0, l1, l2, l3, some (vR z)] [vR z, vR z0] h Q := Rn_nx pg201 rfl rfl
theorem sX20_walk_223 (hk : hK h a1 = 14) : Rn r 201 223 [l0, l1, l2, l3, l4] [vR z0, vR (some a1)] h Q ↔ Rn r 201 226 [l0, l1, l2, l3, l4] [] (putR h a1 2 z0) Q := Rn_nx pg201 rfl ((if_pos ⟨(hk ▸ Nat.le_refl _), (hk ▸ Nat.le_refl _)⟩).trans rfl)
theorem sX20_walk_226 : Rn r 201 226 [l0, l1, l2, l3, l4] [] h Q ↔ Q (Sum.inl none) h := Rn_end pg201 rfl rfl
/-! 202 ThrowRules$Run.walk(LThrowRules$Walk;)V -/
theorem eX21_walk : Cl r 202 [vR z0, vR z1] h Q ↔ Rn r 202 0 [some (vR z0), some (vR z1)] [] h Q := Cl_in pg202 rfl
theorem sX21_walk_0 : Rn r 202 0 [l0, l1] [] h Q ↔ Q (Sum.inl none) h := Rn_end pg202 rfl rfl
/-! 203 ThrowRules$Group.walk(LThrowRules$Walk;)V -/
theorem eX13_walk : Cl r 203 [vR z0, vR z1] h Q ↔ Rn r 203 0 [some (vR z0), some (vR z1)] [] h Q := Cl_in pg203 rfl
theorem sX13_walk_0 : Rn r 203 0 [some (vR z), l1] [] h Q ↔ Rn r 203 1 [some (vR z), l1] [vR z] h Q := Rn_nx pg203 rfl rfl
theorem sX13_walk_1 (hk : hK h a0 = 38) : Rn r 203 1 [l0, l1] [vR (some a0)] h Q ↔ Rn r 203 4 [l0, l1] [vR (hR h a0 5)] h Q := Rn_nx pg203 rfl (if_pos ⟨(hk ▸ Nat.le_refl _), (hk ▸ Nat.le_refl _)⟩)
theorem sX13_walk_4 : Rn r 203 4 [l0, some (vR z)] [vR z0] h Q ↔ Rn r 203 5 [l0, some (vR z)] [vR z, vR z0] h Q := Rn_nx pg203 rfl rfl
theorem sX13_walk_5 (hk : hK h a1 = 21) : Rn (r + 1) 203 5 [l0, l1] [vR z0, vR (some a1)] h Q ↔ Cl r 106 [vR (some a1), vR z0] h (Kt (r + 1) 203 8 [l0, l1] [] Q) := Rn_call pg203 rfl (by simp only [am_exec, am_inv, am_pop, am_lk, hk]; rfl) pg106 rfl rfl rfl
theorem sX13_walk_8 : Rn r 203 8 [l0, l1] [] h Q ↔ Q (Sum.inl none) h := Rn_end pg203 rfl rfl
/-! 204 java/lang/Throwable.<init>(Ljava/lang/String;Ljava/lang/Throwable;ZZ)V -/
theorem eJ0_init_2 : Cl r 204 [vR z0, vR z1, vR z2, vI x3, vI x4] h Q ↔ Rn r 204 0 [some (vR z0), some (vR z1), some (vR z2), some (vI x3), some (vI x4)] [] h Q := Cl_in pg204 rfl
theorem sJ0_init_2_0 : Rn r 204 0 [some (vR z), l1, l2, l3, l4] [] h Q ↔ Rn r 204 1 [some (vR z), l1, l2, l3, l4] [vR z] h Q := Rn_nx pg204 rfl rfl
theorem sJ0_init_2_1 : Rn r 204 1 [l0, l1, l2, l3, l4] [vR (some a0)] h Q ↔ Rn r 204 4 [l0, l1, l2, l3, l4] [] h Q := Rn_nx pg204 rfl rfl
theorem sJ0_init_2_4 : Rn r 204 4 [some (vR z), l1, l2, l3, l4] [] h Q ↔ Rn r 204 5 [some (vR z), l1, l2, l3, l4] [vR z] h Q := Rn_nx pg204 rfl rfl
theorem sJ0_init_2_5 : Rn r 204 5 [some (vR z), l1, l2, l3, l4] [vR z0] h Q ↔ Rn r 204 6 [some (vR z), l1, l2, l3, l4] [vR z, vR z0] h Q := Rn_nx pg204 rfl rfl
theorem sJ0_init_2_6 (hk : hK h a1 = 3) : Rn r 204 6 [l0, l1, l2, l3, l4] [vR z0, vR (some a1)] h Q ↔ Rn r 204 9 [l0, l1, l2, l3, l4] [] (putR h a1 0 z0) Q := Rn_nx pg204 rfl ((if_pos ⟨(hk ▸ Nat.le_refl _), (hk ▸ Nat.le_refl _)⟩).trans rfl)
theorem sJ0_init_2_9 : Rn r 204 9 [some (vR z), l1, l2, l3, l4] [] h Q ↔ Rn r 204 10 [some (vR z), l1, l2, l3, l4] [vR z] h Q := Rn_nx pg204 rfl rfl
theorem sJ0_init_2_10 : Rn r 204 10 [l0, l1, l2, l3, l4] [vR z0] h Q ↔ Rn r 204 13 [l0, l1, l2, l3, l4] [vR (am_opt (hE h 34)), vR z0] h Q := Rn_nx pg204 rfl rfl
theorem sJ0_init_2_13 (hk : hK h a1 = 3) : Rn r 204 13 [l0, l1, l2, l3, l4] [vR z0, vR (some a1)] h Q ↔ Rn r 204 16 [l0, l1, l2, l3, l4] [] (putR h a1 1 z0) Q := Rn_nx pg204 rfl ((if_pos ⟨(hk ▸ Nat.le_refl _), (hk ▸ Nat.le_refl _)⟩).trans rfl)
theorem sJ0_init_2_16 : Rn r 204 16 [some (vR z), l1, l2, l3, l4] [] h Q ↔ Rn r 204 17 [some (vR z), l1, l2, l3, l4] [vR z] h Q := Rn_nx pg204 rfl rfl
theorem sJ0_init_2_17 : Rn r 204 17 [l0, l1, l2, l3, l4] [vR z0] h Q ↔ Rn r 204 20 [l0, l1, l2, l3, l4] [vR (am_opt (hE h 35)), vR z0] h Q := Rn_nx pg204 rfl rfl
theorem sJ0_init_2_20 (hk : hK h a1 = 3) : Rn r 204 20 [l0, l1, l2, l3, l4] [vR z0, vR (some a1)] h Q ↔ Rn r 204 23 [l0, l1, l2, l3, l4] [] (putR h a1 2 z0) Q := Rn_nx pg204 rfl ((if_pos ⟨(hk ▸ Nat.le_refl _), (hk ▸ Nat.le_refl _)⟩).trans rfl)
theorem sJ0_init_2_23 : Rn r 204 23 [l0, l1, l2, l3, some (vI x)] [] h Q ↔ Rn r 204 25 [l0, l1, l2, l3, some (vI x)] [vI x] h Q := Rn_nx pg204 rfl rfl
theorem sJ0_init_2_25 : Rn r 204 25 [l0, l1, l2, l3, l4] [vI x0] h Q ↔ if x0 = 0 then Rn r 204 36 [l0, l1, l2, l3, l4] [] h Q else Rn r 204 28 [l0, l1, l2, l3, l4] [] h Q := Rn_if pg204 rfl rfl rfl
theorem sJ0_init_2_28 : Rn r 204 28 [some (vR z), l1, l2, l3, l4] [] h Q ↔ Rn r 204 29 [some (vR z), l1, l2, l3, l4] [vR z] h Q := Rn_nx pg204 rfl rfl
theorem sJ0_init_2_32 : Rn r 204 32 [l0, l1, l2, l3, l4] [vR z0] h Q ↔ Rn r 204 33 [l0, l1, l2, l3, l4] [] h Q := Rn_nx pg204 rfl rfl
theorem sJ0_init_2_33 : Rn r 204 33 [l0, l1, l2, l3, l4] [] h Q ↔ Rn r 204 41 [l0, l1, l2, l3, l4] [] h Q := Rn_nx pg204 rfl rfl
theorem sJ0_init_2_36 : Rn r 204 36 [some (vR z), l1, l2, l3, l4] [] h Q ↔ Rn r 204 37 [some (vR z), l1, l2, l3, l4] [vR z] h Q := Rn_nx pg204 rfl rfl
theorem sJ0_init_2_37 : Rn r 204 37 [l0, l1, l2, l3, l4] [vR z0] h Q ↔ Rn r 204 38 [l0, l1, l2, l3, l4] [vR none, vR z0] h Q := Rn_nx pg204 rfl rfl
theorem sJ0_init_2_38 (hk : hK h a1 = 3) : Rn r 204 38 [l0, l1, l2, l3, l4] [vR z0, vR (some a1)] h Q ↔ Rn r 204 41 [l0, l1, l2, l3, l4] [] (putR h a1 1 z0) Q := Rn_nx pg204 rfl ((if_pos ⟨(hk ▸ Nat.le_refl _), (hk ▸ Nat.le_refl _)⟩).trans rfl)
theorem sJ0_init_2_41 : Rn r 204 41 [some (vR z), l1, l2, l3, l4] [] h Q ↔ Rn r 204 42 [some (vR z), l1, l2, l3, l4] [vR z] h Q := Rn_nx pg204 rfl rfl
theorem sJ0_init_2_42 : Rn r 204 42 [l0, some (vR z), l2, l3, l4] [vR z0] h Q ↔ Rn r 204 43 [l0, some (vR z), l2, l3, l4] [vR z, vR z0] h Q := Rn_nx pg204 rfl rfl
theorem sJ0_init_2_43 (hk : hK h a1 = 3) : Rn r 204 43 [l0, l1, l2, l3, l4] [vR z0, vR (some a1)] h Q ↔ Rn r 204 46 [l0, l1, l2, l3, l4] [] (putR h a1 3 z0) Q := Rn_nx pg204 rfl ((if_pos ⟨(hk ▸ Nat.le_refl _), (hk ▸ Nat.le_refl _)⟩).trans rfl)
theorem sJ0_init_2_46 : Rn r 204 46 [some (vR z), l1, l2, l3, l4] [] h Q ↔ Rn r 204 47 [some (vR z), l1, l2, l3, l4] [vR z] h Q := Rn_nx pg204 rfl rfl
theorem sJ0_init_2_47 : Rn r 204 47 [l0, l1, some (vR z), l3, l4] [vR z0] h Q ↔ Rn r 204 48 [l0, l1, some (vR z), l3, l4] [vR z, vR z0] h Q := Rn_nx pg204 rfl rfl
theorem sJ0_init_2_48 (hk : hK h a1 = 3) : Rn r 204 48 [l0, l1, l2, l3, l4] [vR z0, vR (some a1)] h Q ↔ Rn r 204 51 [l0, l1, l2, l3, l4] [] (putR h a1 0 z0) Q := Rn_nx pg204 rfl ((if_pos ⟨(hk ▸ Nat.le_refl _), (hk ▸ Nat.le_refl _)⟩).trans rfl)
theorem sJ0_init_2_51 : Rn r 204 51 [l0, l1, l2, some (vI x), l4] [] h Q ↔ Rn r 204 52 [l0, l1, l2, some (vI x), l4] [vI x] h Q := Rn_nx pg204 rfl rfl
theorem sJ0_init_2_52 : Rn r 204 52 [l0, l1, l2, l3, l4] [vI x0] h Q ↔ if x0 ≠ 0 then Rn r 204 60 [l0, l1, l2, l3, l4] [] h Q else Rn r 204 55 [l0, l1, l2, l3, l4] [] h Q := Rn_if pg204 rfl rfl rfl
theorem sJ0_init_2_55 : Rn r 204 55 [some (vR z), l1, l2, l3, l4] [] h Q ↔ Rn r 204 56 [some (vR z), l1, l2, l3, l4] [vR z] h Q := Rn_nx pg204 rfl rfl
theorem sJ0_init_2_56 : Rn r 204 56 [l0, l1, l2, l3, l4] [vR z0] h Q ↔ Rn r 204 57 [l0, l1, l2, l3, l4] [vR none, vR z0] h Q := Rn_nx pg204 rfl rfl
theorem sJ0_init_2_57 (hk : hK h a1 = 3) : Rn r 204 57 [l0, l1, l2, l3, l4] [vR z0, vR (some a1)] h Q ↔ Rn r 204 60 [l0, l1, l2, l3, l4] [] (putR h a1 2 z0) Q := Rn_nx pg204 rfl ((if_pos ⟨(hk ▸ Nat.le_refl _), (hk ▸ Nat.le_refl _)⟩).trans rfl)
theorem sJ0_init_2_60 : Rn r 204 60 [l0, l1, l2, l3, l4] [] h Q ↔ Q (Sum.inl none) h := Rn_end pg204 rfl rfl
/-! 205 java/util/ArrayList.grow()[Ljava/lang/Object; -/
theorem eJ5_grow : Cl r 205 [vR z0] h Q ↔ Rn r 205 0 [some (vR z0)] [] h Q := Cl_in pg205 rfl
theorem sJ5_grow_0 : Rn r 205 0 [some (vR z)] [] h Q ↔ Rn r 205 1 [some (vR z)] [vR z] h Q := Rn_nx pg205 rfl rfl
theorem sJ5_grow_1 : Rn r 205 1 [some (vR z)] [vR z0] h Q ↔ Rn r 205 2 [some (vR z)] [vR z, vR z0] h Q := Rn_nx pg205 rfl rfl
theorem sJ5_grow_2 (hk : hK h a0 = 4) : Rn r 205 2 [l0] [vR (some a0), vR z1] h Q ↔ Rn r 205 5 [l0] [vI (hI h a0 2), vR z1] h Q := Rn_nx pg205 rfl (if_pos ⟨(hk ▸ Nat.le_refl _), (hk ▸ Nat.le_refl _)⟩)
theorem sJ5_grow_5 : Rn r 205 5 [l0] [vI x0, vR z1] h Q ↔ Rn r 205 6 [l0] [vI 1, vI x0, vR z1] h Q := Rn_nx pg205 rfl rfl
theorem sJ5_grow_6 : Rn r 205 6 [l0] [vI x0, vI x1, vR z2] h Q ↔ Rn r 205 7 [l0] [vI (x1 + x0), vR z2] h Q := Rn_nx pg205 rfl rfl
theorem sJ5_grow_7 (hk : hK h a1 = 4) : Rn r 205 7 [l0] [vI x0, vR (some a1)] h Q ↔ Cl r 257 [vR (some a1), vI x0] h (Kt r 205 10 [l0] [] Q) := Rn_call pg205 rfl (by simp only [am_exec, am_inv, am_pop, am_lk, hk]; rfl) pg257 rfl rfl rfl
theorem sJ5_grow_10 : Rn r 205 10 [l0] [vR z0] h Q ↔ Q (Sum.inl (some (vR z0))) h := Rn_end pg205 rfl rfl
/-! 206 java/util/HashMap.resize()[Ljava/util/HashMap$Node; -/
theorem eJ7_resize : Cl r 206 [vR z0] h Q ↔ Rn r 206 0 [some (vR z0), none, none, none, none, none, none, none, none, none, none, none, none, none] [] h Q := Cl_in pg206 rfl
theorem sJ7_resize_0 : Rn r 206 0 [some (vR z), l1, l2, l3, l4, l5, l6, l7, l8, l9, l10, l11, l12, l13] [] h Q ↔ Rn r 206 1 [some (vR z), l1, l2, l3, l4, l5, l6, l7, l8, l9, l10, l11, l12, l13] [vR z] h Q := Rn_nx pg206 rfl rfl
theorem sJ7_resize_1 (hk : hK h a0 = 6) : Rn r 206 1 [l0, l1, l2, l3, l4, l5, l6, l7, l8, l9, l10, l11, l12, l13] [vR (some a0)] h Q ↔ Rn r 206 4 [l0, l1, l2, l3, l4, l5, l6, l7, l8, l9, l10, l11, l12, l13] [vR (hR h a0 2)] h Q := Rn_nx pg206 rfl (if_pos ⟨(hk ▸ Nat.le_refl _), (hk ▸ Nat.le_refl _)⟩)
theorem sJ7_resize_4 : Rn r 206 4 [l0, l1, l2, l3, l4, l5, l6, l7, l8, l9, l10, l11, l12, l13] [vR z0] h Q ↔ Rn r 206 5 [l0, some (vR z0), l2, l3, l4, l5, l6, l7, l8, l9, l10, l11, l12, l13] [] h Q := Rn_nx pg206 rfl rfl
theorem sJ7_resize_5 : Rn r 206 5 [l0, some (vR z), l2, l3, l4, l5, l6, l7, l8, l9, l10, l11, l12, l13] [] h Q ↔ Rn r 206 6 [l0, some (vR z), l2, l3, l4, l5, l6, l7, l8, l9, l10, l11, l12, l13] [vR z] h Q := Rn_nx pg206 rfl rfl
theorem sJ7_resize_6 : Rn r 206 6 [l0, l1, l2, l3, l4, l5, l6, l7, l8, l9, l10, l11, l12, l13] [vR z0] h Q ↔ if z0 ≠ none then Rn r 206 13 [l0, l1, l2, l3, l4, l5, l6, l7, l8, l9, l10, l11, l12, l13] [] h Q else Rn r 206 9 [l0, l1, l2, l3, l4, l5, l6, l7, l8, l9, l10, l11, l12, l13] [] h Q := Rn_if pg206 rfl rfl rfl
theorem sJ7_resize_9 : Rn r 206 9 [l0, l1, l2, l3, l4, l5, l6, l7, l8, l9, l10, l11, l12, l13] [] h Q ↔ Rn r 206 10 [l0, l1, l2, l3, l4, l5, l6, l7, l8, l9, l10, l11, l12, l13] [vI 0] h Q := Rn_nx pg206 rfl rfl
theorem sJ7_resize_10 : Rn r 206 10 [l0, l1, l2, l3, l4, l5, l6, l7, l8, l9, l10, l11, l12, l13] [vI x0] h Q ↔ Rn r 206 15 [l0, l1, l2, l3, l4, l5, l6, l7, l8, l9, l10, l11, l12, l13] [vI x0] h Q := Rn_nx pg206 rfl rfl
theorem sJ7_resize_13 : Rn r 206 13 [l0, some (vR z), l2, l3, l4, l5, l6, l7, l8, l9, l10, l11, l12, l13] [] h Q ↔ Rn r 206 14 [l0, some (vR z), l2, l3, l4, l5, l6, l7, l8, l9, l10, l11, l12, l13] [vR z] h Q := Rn_nx pg206 rfl rfl
theorem sJ7_resize_14 (hk : 40 ≤ hK h a0) (hk2 : hK h a0 ≤ 49) : Rn r 206 14 [l0, l1, l2, l3, l4, l5, l6, l7, l8, l9, l10, l11, l12, l13] [vR (some a0)] h Q ↔ Rn r 206 15 [l0, l1, l2, l3, l4, l5, l6, l7, l8, l9, l10, l11, l12, l13] [vI (nI (hL h a0))] h Q := Rn_nx pg206 rfl (if_pos ⟨hk, hk2⟩)
theorem sJ7_resize_15 : Rn r 206 15 [l0, l1, l2, l3, l4, l5, l6, l7, l8, l9, l10, l11, l12, l13] [vI x0] h Q ↔ Rn r 206 16 [l0, l1, some (vI x0), l3, l4, l5, l6, l7, l8, l9, l10, l11, l12, l13] [] h Q := Rn_nx pg206 rfl rfl
theorem sJ7_resize_16 : Rn r 206 16 [some (vR z), l1, l2, l3, l4, l5, l6, l7, l8, l9, l10, l11, l12, l13] [] h Q ↔ Rn r 206 17 [some (vR z), l1, l2, l3, l4, l5, l6, l7, l8, l9, l10, l11, l12, l13] [vR z] h Q := Rn_nx pg206 rfl rfl
theorem sJ7_resize_17 (hk : hK h a0 = 6) : Rn r 206 17 [l0, l1, l2, l3, l4, l5, l6, l7, l8, l9, l10, l11, l12, l13] [vR (some a0)] h Q ↔ Rn r 206 20 [l0, l1, l2, l3, l4, l5, l6, l7, l8, l9, l10, l11, l12, l13] [vI (hI h a0 6)] h Q := Rn_nx pg206 rfl (if_pos ⟨(hk ▸ Nat.le_refl _), (hk ▸ Nat.le_refl _)⟩)
theorem sJ7_resize_20 : Rn r 206 20 [l0, l1, l2, l3, l4, l5, l6, l7, l8, l9, l10, l11, l12, l13] [vI x0] h Q ↔ Rn r 206 21 [l0, l1, l2, some (vI x0), l4, l5, l6, l7, l8, l9, l10, l11, l12, l13] [] h Q := Rn_nx pg206 rfl rfl
theorem sJ7_resize_21 : Rn r 206 21 [l0, l1, l2, l3, l4, l5, l6, l7, l8, l9, l10, l11, l12, l13] [] h Q ↔ Rn r 206 22 [l0, l1, l2, l3, l4, l5, l6, l7, l8, l9, l10, l11, l12, l13] [vI 0] h Q := Rn_nx pg206 rfl rfl
theorem sJ7_resize_22 : Rn r 206 22 [l0, l1, l2, l3, l4, l5, l6, l7, l8, l9, l10, l11, l12, l13] [vI x0] h Q ↔ Rn r 206 24 [l0, l1, l2, l3, l4, some (vI x0), l6, l7, l8, l9, l10, l11, l12, l13] [] h Q := Rn_nx pg206 rfl rfl
theorem sJ7_resize_24 : Rn r 206 24 [l0, l1, some (vI x), l3, l4, l5, l6, l7, l8, l9, l10, l11, l12, l13] [] h Q ↔ Rn r 206 25 [l0, l1, some (vI x), l3, l4, l5, l6, l7, l8, l9, l10, l11, l12, l13] [vI x] h Q := Rn_nx pg206 rfl rfl
theorem sJ7_resize_25 : Rn r 206 25 [l0, l1, l2, l3, l4, l5, l6, l7, l8, l9, l10, l11, l12, l13] [vI x0] h Q ↔ if x0 ≤ 0 then Rn r 206 67 [l0, l1, l2, l3, l4, l5, l6, l7, l8, l9, l10, l11, l12, l13] [] h Q else Rn r 206 28 [l0, l1, l2, l3, l4, l5, l6, l7, l8, l9, l10, l11, l12, l13] [] h Q := Rn_if pg206 rfl rfl rfl
theorem sJ7_resize_28 : Rn r 206 28 [l0, l1, some (vI x), l3, l4, l5, l6, l7, l8, l9, l10, l11, l12, l13] [] h Q ↔ Rn r 206 29 [l0, l1, some (vI x), l3, l4, l5, l6, l7, l8, l9, l10, l11, l12, l13] [vI x] h Q := Rn_nx pg206 rfl rfl
theorem sJ7_resize_29 : Rn r 206 29 [l0, l1, l2, l3, l4, l5, l6, l7, l8, l9, l10, l11, l12, l13] [vI x0] h Q ↔ Rn r 206 31 [l0, l1, l2, l3, l4, l5, l6, l7, l8, l9, l10, l11, l12, l13] [vI 1073741824, vI x0] h Q := Rn_nx pg206 rfl rfl
theorem sJ7_resize_31 : Rn r 206 31 [l0, l1, l2, l3, l4, l5, l6, l7, l8, l9, l10, l11, l12, l13] [vI x0, vI x1] h Q ↔ if x1 < x0 then Rn r 206 42 [l0, l1, l2, l3, l4, l5, l6, l7, l8, l9, l10, l11, l12, l13] [] h Q else Rn r 206 34 [l0, l1, l2, l3, l4, l5, l6, l7, l8, l9, l10, l11, l12, l13] [] h Q := Rn_if pg206 rfl rfl rfl
theorem sJ7_resize_34 : Rn r 206 34 [some (vR z), l1, l2, l3, l4, l5, l6, l7, l8, l9, l10, l11, l12, l13] [] h Q ↔ Rn r 206 35 [some (vR z), l1, l2, l3, l4, l5, l6, l7, l8, l9, l10, l11, l12, l13] [vR z] h Q := Rn_nx pg206 rfl rfl
theorem sJ7_resize_35 : Rn r 206 35 [l0, l1, l2, l3, l4, l5, l6, l7, l8, l9, l10, l11, l12, l13] [vR z0] h Q ↔ Rn r 206 37 [l0, l1, l2, l3, l4, l5, l6, l7, l8, l9, l10, l11, l12, l13] [vI 2147483647, vR z0] h Q := Rn_nx pg206 rfl rfl
theorem sJ7_resize_37 (hk : hK h a1 = 6) : Rn r 206 37 [l0, l1, l2, l3, l4, l5, l6, l7, l8, l9, l10, l11, l12, l13] [vI x0, vR (some a1)] h Q ↔ Rn r 206 40 [l0, l1, l2, l3, l4, l5, l6, l7, l8, l9, l10, l11, l12, l13] [] (putI h a1 6 x0) Q := Rn_nx pg206 rfl ((if_pos ⟨(hk ▸ Nat.le_refl _), (hk ▸ Nat.le_refl _)⟩).trans rfl)
theorem sJ7_resize_40 : Rn r 206 40 [l0, some (vR z), l2, l3, l4, l5, l6, l7, l8, l9, l10, l11, l12, l13] [] h Q ↔ Rn r 206 41 [l0, some (vR z), l2, l3, l4, l5, l6, l7, l8, l9, l10, l11, l12, l13] [vR z] h Q := Rn_nx pg206 rfl rfl
theorem sJ7_resize_41 : Rn r 206 41 [l0, l1, l2, l3, l4, l5, l6, l7, l8, l9, l10, l11, l12, l13] [vR z0] h Q ↔ Q (Sum.inl (some (vR z0))) h := Rn_end pg206 rfl rfl
theorem sJ7_resize_42 : Rn r 206 42 [l0, l1, some (vI x), l3, l4, l5, l6, l7, l8, l9, l10, l11, l12, l13] [] h Q ↔ Rn r 206 43 [l0, l1, some (vI x), l3, l4, l5, l6, l7, l8, l9, l10, l11, l12, l13] [vI x] h Q := Rn_nx pg206 rfl rfl
theorem sJ7_resize_43 : Rn r 206 43 [l0, l1, l2, l3, l4, l5, l6, l7, l8, l9, l10, l11, l12, l13] [vI x0] h Q ↔ Rn r 206 44 [l0, l1, l2, l3, l4, l5, l6, l7, l8, l9, l10, l11, l12, l13] [vI 1, vI x0] h Q := Rn_nx pg206 rfl rfl
theorem sJ7_resize_44 : Rn r 206 44 [l0, l1, l2, l3, l4, l5, l6, l7, l8, l9, l10, l11, l12, l13] [vI x0, vI x1] h Q ↔ Rn r 206 45 [l0, l1, l2, l3, l4, l5, l6, l7, l8, l9, l10, l11, l12, l13] [vI (x1 <<< (x0 &&& 31))] h Q := Rn_nx pg206 rfl rfl
theorem sJ7_resize_45 : Rn r 206 45 [l0, l1, l2, l3, l4, l5, l6, l7, l8, l9, l10, l11, l12, l13] [vI x0] h Q ↔ Rn r 206 46 [l0, l1, l2, l3, l4, l5, l6, l7, l8, l9, l10, l11, l12, l13] [vI x0, vI x0] h Q := Rn_nx pg206 rfl rfl
theorem sJ7_resize_46 : Rn r 206 46 [l0, l1, l2, l3, l4, l5, l6, l7, l8, l9, l10, l11, l12, l13] [vI x0, vI x1] h Q ↔ Rn r 206 48 [l0, l1, l2, l3, some (vI x0), l5, l6, l7, l8, l9, l10, l11, l12, l13] [vI x1] h Q := Rn_nx pg206 rfl rfl
theorem sJ7_resize_48 : Rn r 206 48 [l0, l1, l2, l3, l4, l5, l6, l7, l8, l9, l10, l11, l12, l13] [vI x0] h Q ↔ Rn r 206 50 [l0, l1, l2, l3, l4, l5, l6, l7, l8, l9, l10, l11, l12, l13] [vI 1073741824, vI x0] h Q := Rn_nx pg206 rfl rfl
theorem sJ7_resize_50 : Rn r 206 50 [l0, l1, l2, l3, l4, l5, l6, l7, l8, l9, l10, l11, l12, l13] [vI x0, vI x1] h Q ↔ if x0 ≤ x1 then Rn r 206 85 [l0, l1, l2, l3, l4, l5, l6, l7, l8, l9, l10, l11, l12, l13] [] h Q else Rn r 206 53 [l0, l1, l2, l3, l4, l5, l6, l7, l8, l9, l10, l11, l12, l13] [] h Q := Rn_if pg206 rfl rfl rfl
theorem sJ7_resize_53 : Rn r 206 53 [l0, l1, some (vI x), l3, l4, l5, l6, l7, l8, l9, l10, l11, l12, l13] [] h Q ↔ Rn r 206 54 [l0, l1, some (vI x), l3, l4, l5, l6, l7, l8, l9, l10, l11, l12, l13] [vI x] h Q := Rn_nx pg206 rfl rfl
theorem sJ7_resize_54 : Rn r 206 54 [l0, l1, l2, l3, l4, l5, l6, l7, l8, l9, l10, l11, l12, l13] [vI x0] h Q ↔ Rn r 206 56 [l0, l1, l2, l3, l4, l5, l6, l7, l8, l9, l10, l11, l12, l13] [vI 16, vI x0] h Q := Rn_nx pg206 rfl rfl
theorem sJ7_resize_56 : Rn r 206 56 [l0, l1, l2, l3, l4, l5, l6, l7, l8, l9, l10, l11, l12, l13] [vI x0, vI x1] h Q ↔ if x1 < x0 then Rn r 206 85 [l0, l1, l2, l3, l4, l5, l6, l7, l8, l9, l10, l11, l12, l13] [] h Q else Rn r 206 59 [l0, l1, l2, l3, l4, l5, l6, l7, l8, l9, l10, l11, l12, l13] [] h Q := Rn_if pg206 rfl rfl rfl
theorem sJ7_resize_59 : Rn r 206 59 [l0, l1, l2, some (vI x), l4, l5, l6, l7, l8, l9, l10, l11, l12, l13] [] h Q ↔ Rn r 206 60 [l0, l1, l2, some (vI x), l4, l5, l6, l7, l8, l9, l10, l11, l12, l13] [vI x] h Q := Rn_nx pg206 rfl rfl
theorem sJ7_resize_60 : Rn r 206 60 [l0, l1, l2, l3, l4, l5, l6, l7, l8, l9, l10, l11, l12, l13] [vI x0] h Q ↔ Rn r 206 61 [l0, l1, l2, l3, l4, l5, l6, l7, l8, l9, l10, l11, l12, l13] [vI 1, vI x0] h Q := Rn_nx pg206 rfl rfl
theorem sJ7_resize_61 : Rn r 206 61 [l0, l1, l2, l3, l4, l5, l6, l7, l8, l9, l10, l11, l12, l13] [vI x0, vI x1] h Q ↔ Rn r 206 62 [l0, l1, l2, l3, l4, l5, l6, l7, l8, l9, l10, l11, l12, l13] [vI (x1 <<< (x0 &&& 31))] h Q := Rn_nx pg206 rfl rfl
theorem sJ7_resize_62 : Rn r 206 62 [l0, l1, l2, l3, l4, l5, l6, l7, l8, l9, l10, l11, l12, l13] [vI x0] h Q ↔ Rn r 206 64 [l0, l1, l2, l3, l4, some (vI x0), l6, l7, l8, l9, l10, l11, l12, l13] [] h Q := Rn_nx pg206 rfl rfl
theorem sJ7_resize_64 : Rn r 206 64 [l0, l1, l2, l3, l4, l5, l6, l7, l8, l9, l10, l11, l12, l13] [] h Q ↔ Rn r 206 85 [l0, l1, l2, l3, l4, l5, l6, l7, l8, l9, l10, l11, l12, l13] [] h Q := Rn_nx pg206 rfl rfl
theorem sJ7_resize_67 : Rn r 206 67 [l0, l1, l2, some (vI x), l4, l5, l6, l7, l8, l9, l10, l11, l12, l13] [] h Q ↔ Rn r 206 68 [l0, l1, l2, some (vI x), l4, l5, l6, l7, l8, l9, l10, l11, l12, l13] [vI x] h Q := Rn_nx pg206 rfl rfl
theorem sJ7_resize_68 : Rn r 206 68 [l0, l1, l2, l3, l4, l5, l6, l7, l8, l9, l10, l11, l12, l13] [vI x0] h Q ↔ if x0 ≤ 0 then Rn r 206 77 [l0, l1, l2, l3, l4, l5, l6, l7, l8, l9, l10, l11, l12, l13] [] h Q else Rn r 206 71 [l0, l1, l2, l3, l4, l5, l6, l7, l8, l9, l10, l11, l12, l13] [] h Q := Rn_if pg206 rfl rfl rfl
theorem sJ7_resize_71 : Rn r 206 71 [l0, l1, l2, some (vI x), l4, l5, l6, l7, l8, l9, l10, l11, l12, l13] [] h Q ↔ Rn r 206 72 [l0, l1, l2, some (vI x), l4, l5, l6, l7, l8, l9, l10, l11, l12, l13] [vI x] h Q := Rn_nx pg206 rfl rfl
theorem sJ7_resize_72 : Rn r 206 72 [l0, l1, l2, l3, l4, l5, l6, l7, l8, l9, l10, l11, l12, l13] [vI x0] h Q ↔ Rn r 206 74 [l0, l1, l2, l3, some (vI x0), l5, l6, l7, l8, l9, l10, l11, l12, l13] [] h Q := Rn_nx pg206 rfl rfl
theorem sJ7_resize_74 : Rn r 206 74 [l0, l1, l2, l3, l4, l5, l6, l7, l8, l9, l10, l11, l12, l13] [] h Q ↔ Rn r 206 85 [l0, l1, l2, l3, l4, l5, l6, l7, l8, l9, l10, l11, l12, l13] [] h Q := Rn_nx pg206 rfl rfl
theorem sJ7_resize_77 : Rn r 206 77 [l0, l1, l2, l3, l4, l5, l6, l7, l8, l9, l10, l11, l12, l13] [] h Q ↔ Rn r 206 79 [l0, l1, l2, l3, l4, l5, l6, l7, l8, l9, l10, l11, l12, l13] [vI 16] h Q := Rn_nx pg206 rfl rfl
theorem sJ7_resize_79 : Rn r 206 79 [l0, l1, l2, l3, l4, l5, l6, l7, l8, l9, l10, l11, l12, l13] [vI x0] h Q ↔ Rn r 206 81 [l0, l1, l2, l3, some (vI x0), l5, l6, l7, l8, l9, l10, l11, l12, l13] [] h Q := Rn_nx pg206 rfl rfl
theorem sJ7_resize_81 : Rn r 206 81 [l0, l1, l2, l3, l4, l5, l6, l7, l8, l9, l10, l11, l12, l13] [] h Q ↔ Rn r 206 83 [l0, l1, l2, l3, l4, l5, l6, l7, l8, l9, l10, l11, l12, l13] [vI 12] h Q := Rn_nx pg206 rfl rfl
theorem sJ7_resize_83 : Rn r 206 83 [l0, l1, l2, l3, l4, l5, l6, l7, l8, l9, l10, l11, l12, l13] [vI x0] h Q ↔ Rn r 206 85 [l0, l1, l2, l3, l4, some (vI x0), l6, l7, l8, l9, l10, l11, l12, l13] [] h Q := Rn_nx pg206 rfl rfl
theorem sJ7_resize_85 : Rn r 206 85 [l0, l1, l2, l3, l4, some (vI x), l6, l7, l8, l9, l10, l11, l12, l13] [] h Q ↔ Rn r 206 87 [l0, l1, l2, l3, l4, some (vI x), l6, l7, l8, l9, l10, l11, l12, l13] [vI x] h Q := Rn_nx pg206 rfl rfl
theorem sJ7_resize_87 : Rn r 206 87 [l0, l1, l2, l3, l4, l5, l6, l7, l8, l9, l10, l11, l12, l13] [vI x0] h Q ↔ if x0 ≠ 0 then Rn r 206 125 [l0, l1, l2, l3, l4, l5, l6, l7, l8, l9, l10, l11, l12, l13] [] h Q else Rn r 206 90 [l0, l1, l2, l3, l4, l5, l6, l7, l8, l9, l10, l11, l12, l13] [] h Q := Rn_if pg206 rfl rfl rfl
theorem sJ7_resize_90 : Rn r 206 90 [l0, l1, l2, l3, some (vI x), l5, l6, l7, l8, l9, l10, l11, l12, l13] [] h Q ↔ Rn r 206 92 [l0, l1, l2, l3, some (vI x), l5, l6, l7, l8, l9, l10, l11, l12, l13] [vI x] h Q := Rn_nx pg206 rfl rfl
-- no step: J7_resize 92 .i2f
theorem sJ7_resize_93 : Rn r 206 93 [some (vR z), l1, l2, l3, l4, l5, l6, l7, l8, l9, l10, l11, l12, l13] [vF w0] h Q ↔ Rn r 206 94 [some (vR z), l1, l2, l3, l4, l5, l6, l7, l8, l9, l10, l11, l12, l13] [vR z, vF w0] h Q := Rn_nx pg206 rfl rfl
-- no step: J7_resize 97 .fmul
-- no step: J7_resize 98 .fstore 6
theorem sJ7_resize_100 : Rn r 206 100 [l0, l1, l2, l3, some (vI x), l5, l6, l7, l8, l9, l10, l11, l12, l13] [] h Q ↔ Rn r 206 102 [l0, l1, l2, l3, some (vI x), l5, l6, l7, l8, l9, l10, l11, l12, l13] [vI x] h Q := Rn_nx pg206 rfl rfl
theorem sJ7_resize_102 : Rn r 206 102 [l0, l1, l2, l3, l4, l5, l6, l7, l8, l9, l10, l11, l12, l13] [vI x0] h Q ↔ Rn r 206 104 [l0, l1, l2, l3, l4, l5, l6, l7, l8, l9, l10, l11, l12, l13] [vI 1073741824, vI x0] h Q := Rn_nx pg206 rfl rfl
theorem sJ7_resize_104 : Rn r 206 104 [l0, l1, l2, l3, l4, l5, l6, l7, l8, l9, l10, l11, l12, l13] [vI x0, vI x1] h Q ↔ if x0 ≤ x1 then Rn r 206 121 [l0, l1, l2, l3, l4, l5, l6, l7, l8, l9, l10, l11, l12, l13] [] h Q else Rn r 206 107 [l0, l1, l2, l3, l4, l5, l6, l7, l8, l9, l10, l11, l12, l13] [] h Q := Rn_if pg206 rfl rfl rfl
-- no step: J7_resize 107 .fload 6
theorem sJ7_resize_109 : Rn r 206 109 [l0, l1, l2, l3, l4, l5, l6, l7, l8, l9, l10, l11, l12, l13] [vF w0] h Q ↔ Rn r 206 111 [l0, l1, l2, l3, l4, l5, l6, l7, l8, l9, l10, l11, l12, l13] [vF (UInt32.ofNat 1317011456), vF w0] h Q := Rn_nx pg206 rfl rfl
-- no step: J7_resize 111 .fcmp .g
theorem sJ7_resize_112 : Rn r 206 112 [l0, l1, l2, l3, l4, l5, l6, l7, l8, l9, l10, l11, l12, l13] [vI x0] h Q ↔ if 0 ≤ x0 then Rn r 206 121 [l0, l1, l2, l3, l4, l5, l6, l7, l8, l9, l10, l11, l12, l13] [] h Q else Rn r 206 115 [l0, l1, l2, l3, l4, l5, l6, l7, l8, l9, l10, l11, l12, l13] [] h Q := Rn_if pg206 rfl rfl rfl
-- no step: J7_resize 115 .fload 6
-- no step: J7_resize 117 .f2i
theorem sJ7_resize_118 : Rn r 206 118 [l0, l1, l2, l3, l4, l5, l6, l7, l8, l9, l10, l11, l12, l13] [vI x0] h Q ↔ Rn r 206 123 [l0, l1, l2, l3, l4, l5, l6, l7, l8, l9, l10, l11, l12, l13] [vI x0] h Q := Rn_nx pg206 rfl rfl
theorem sJ7_resize_121 : Rn r 206 121 [l0, l1, l2, l3, l4, l5, l6, l7, l8, l9, l10, l11, l12, l13] [] h Q ↔ Rn r 206 123 [l0, l1, l2, l3, l4, l5, l6, l7, l8, l9, l10, l11, l12, l13] [vI 2147483647] h Q := Rn_nx pg206 rfl rfl
theorem sJ7_resize_123 : Rn r 206 123 [l0, l1, l2, l3, l4, l5, l6, l7, l8, l9, l10, l11, l12, l13] [vI x0] h Q ↔ Rn r 206 125 [l0, l1, l2, l3, l4, some (vI x0), l6, l7, l8, l9, l10, l11, l12, l13] [] h Q := Rn_nx pg206 rfl rfl
theorem sJ7_resize_125 : Rn r 206 125 [some (vR z), l1, l2, l3, l4, l5, l6, l7, l8, l9, l10, l11, l12, l13] [] h Q ↔ Rn r 206 126 [some (vR z), l1, l2, l3, l4, l5, l6, l7, l8, l9, l10, l11, l12, l13] [vR z] h Q := Rn_nx pg206 rfl rfl
theorem sJ7_resize_126 : Rn r 206 126 [l0, l1, l2, l3, l4, some (vI x), l6, l7, l8, l9, l10, l11, l12, l13] [vR z0] h Q ↔ Rn r 206 128 [l0, l1, l2, l3, l4, some (vI x), l6, l7, l8, l9, l10, l11, l12, l13] [vI x, vR z0] h Q := Rn_nx pg206 rfl rfl
theorem sJ7_resize_128 (hk : hK h a1 = 6) : Rn r 206 128 [l0, l1, l2, l3, l4, l5, l6, l7, l8, l9, l10, l11, l12, l13] [vI x0, vR (some a1)] h Q ↔ Rn r 206 131 [l0, l1, l2, l3, l4, l5, l6, l7, l8, l9, l10, l11, l12, l13] [] (putI h a1 6 x0) Q := Rn_nx pg206 rfl ((if_pos ⟨(hk ▸ Nat.le_refl _), (hk ▸ Nat.le_refl _)⟩).trans rfl)
theorem sJ7_resize_131 : Rn r 206 131 [l0, l1, l2, l3, some (vI x), l5, l6, l7, l8, l9, l10, l11, l12, l13] [] h Q ↔ Rn r 206 133 [l0, l1, l2, l3, some (vI x), l5, l6, l7, l8, l9, l10, l11, l12, l13] [vI x] h Q := Rn_nx pg206 rfl rfl
theorem sJ7_resize_133 (hn : ¬ (x0 < 0 ∨ 65536 < x0.toNatClampNeg)) : Rn r 206 133 [l0, l1, l2, l3, l4, l5, l6, l7, l8, l9, l10, l11, l12, l13] [vI x0] h Q ↔ Rn r 206 136 [l0, l1, l2, l3, l4, l5, l6, l7, l8, l9, l10, l11, l12, l13] [vR (some (hN h))] (newC h 48 x0.toNatClampNeg) Q := Rn_nx pg206 rfl (if_neg hn)
theorem sJ7_resize_136 : Rn r 206 136 [l0, l1, l2, l3, l4, l5, l6, l7, l8, l9, l10, l11, l12, l13] [vR z0] h Q ↔ Rn r 206 138 [l0, l1, l2, l3, l4, l5, some (vR z0), l7, l8, l9, l10, l11, l12, l13] [] h Q := Rn_nx pg206 rfl rfl
theorem sJ7_resize_138 : Rn r 206 138 [some (vR z), l1, l2, l3, l4, l5, l6, l7, l8, l9, l10, l11, l12, l13] [] h Q ↔ Rn r 206 139 [some (vR z), l1, l2, l3, l4, l5, l6, l7, l8, l9, l10, l11, l12, l13] [vR z] h Q := Rn_nx pg206 rfl rfl
theorem sJ7_resize_139 : Rn r 206 139 [l0, l1, l2, l3, l4, l5, some (vR z), l7, l8, l9, l10, l11, l12, l13] [vR z0] h Q ↔ Rn r 206 141 [l0, l1, l2, l3, l4, l5, some (vR z), l7, l8, l9, l10, l11, l12, l13] [vR z, vR z0] h Q := Rn_nx pg206 rfl rfl
theorem sJ7_resize_141 (hk : hK h a1 = 6) : Rn r 206 141 [l0, l1, l2, l3, l4, l5, l6, l7, l8, l9, l10, l11, l12, l13] [vR z0, vR (some a1)] h Q ↔ Rn r 206 144 [l0, l1, l2, l3, l4, l5, l6, l7, l8, l9, l10, l11, l12, l13] [] (putR h a1 2 z0) Q := Rn_nx pg206 rfl ((if_pos ⟨(hk ▸ Nat.le_refl _), (hk ▸ Nat.le_refl _)⟩).trans rfl)
theorem sJ7_resize_144 : Rn r 206 144 [l0, some (vR z), l2, l3, l4, l5, l6, l7, l8, l9, l10, l11, l12, l13] [] h Q ↔ Rn r 206 145 [l0, some (vR z), l2, l3, l4, l5, l6, l7, l8, l9, l10, l11, l12, l13] [vR z] h Q := Rn_nx pg206 rfl rfl
theorem sJ7_resize_145 : Rn r 206 145 [l0, l1, l2, l3, l4, l5, l6, l7, l8, l9, l10, l11, l12, l13] [vR z0] h Q ↔ if z0 = none then Rn r 206 353 [l0, l1, l2, l3, l4, l5, l6, l7, l8, l9, l10, l11, l12, l13] [] h Q else Rn r 206 148 [l0, l1, l2, l3, l4, l5, l6, l7, l8, l9, l10, l11, l12, l13] [] h Q := Rn_if pg206 rfl rfl rfl
theorem sJ7_resize_148 : Rn r 206 148 [l0, l1, l2, l3, l4, l5, l6, l7, l8, l9, l10, l11, l12, l13] [] h Q ↔ Rn r 206 149 [l0, l1, l2, l3, l4, l5, l6, l7, l8, l9, l10, l11, l12, l13] [vI 0] h Q := Rn_nx pg206 rfl rfl
theorem sJ7_resize_149 : Rn r 206 149 [l0, l1, l2, l3, l4, l5, l6, l7, l8, l9, l10, l11, l12, l13] [vI x0] h Q ↔ Rn r 206 151 [l0, l1, l2, l3, l4, l5, l6, some (vI x0), l8, l9, l10, l11, l12, l13] [] h Q := Rn_nx pg206 rfl rfl
theorem sJ7_resize_151 : Rn r 206 151 [l0, l1, l2, l3, l4, l5, l6, some (vI x), l8, l9, l10, l11, l12, l13] [] h Q ↔ Rn r 206 153 [l0, l1, l2, l3, l4, l5, l6, some (vI x), l8, l9, l10, l11, l12, l13] [vI x] h Q := Rn_nx pg206 rfl rfl
theorem sJ7_resize_153 : Rn r 206 153 [l0, l1, some (vI x), l3, l4, l5, l6, l7, l8, l9, l10, l11, l12, l13] [vI x0] h Q ↔ Rn r 206 154 [l0, l1, some (vI x), l3, l4, l5, l6, l7, l8, l9, l10, l11, l12, l13] [vI x, vI x0] h Q := Rn_nx pg206 rfl rfl
theorem sJ7_resize_154 : Rn r 206 154 [l0, l1, l2, l3, l4, l5, l6, l7, l8, l9, l10, l11, l12, l13] [vI x0, vI x1] h Q ↔ if x0 ≤ x1 then Rn r 206 353 [l0, l1, l2, l3, l4, l5, l6, l7, l8, l9, l10, l11, l12, l13] [] h Q else Rn r 206 157 [l0, l1, l2, l3, l4, l5, l6, l7, l8, l9, l10, l11, l12, l13] [] h Q := Rn_if pg206 rfl rfl rfl
theorem sJ7_resize_157 : Rn r 206 157 [l0, some (vR z), l2, l3, l4, l5, l6, l7, l8, l9, l10, l11, l12, l13] [] h Q ↔ Rn r 206 158 [l0, some (vR z), l2, l3, l4, l5, l6, l7, l8, l9, l10, l11, l12, l13] [vR z] h Q := Rn_nx pg206 rfl rfl
theorem sJ7_resize_158 : Rn r 206 158 [l0, l1, l2, l3, l4, l5, l6, some (vI x), l8, l9, l10, l11, l12, l13] [vR z0] h Q ↔ Rn r 206 160 [l0, l1, l2, l3, l4, l5, l6, some (vI x), l8, l9, l10, l11, l12, l13] [vI x, vR z0] h Q := Rn_nx pg206 rfl rfl
theorem sJ7_resize_160 (hk : 46 ≤ hK h a1) (hk2 : hK h a1 ≤ 49) (hx : ¬ (x0 < 0 ∨ hL h a1 ≤ x0.toNatClampNeg)) : Rn r 206 160 [l0, l1, l2, l3, l4, l5, l6, l7, l8, l9, l10, l11, l12, l13] [vI x0, vR (some a1)] h Q ↔ Rn r 206 161 [l0, l1, l2, l3, l4, l5, l6, l7, l8, l9, l10, l11, l12, l13] [vR (hR h a1 x0.toNatClampNeg)] h Q := Rn_nx pg206 rfl ((if_pos ⟨hk, hk2⟩).trans (if_neg hx))
theorem sJ7_resize_161 : Rn r 206 161 [l0, l1, l2, l3, l4, l5, l6, l7, l8, l9, l10, l11, l12, l13] [vR z0] h Q ↔ Rn r 206 162 [l0, l1, l2, l3, l4, l5, l6, l7, l8, l9, l10, l11, l12, l13] [vR z0, vR z0] h Q := Rn_nx pg206 rfl rfl
theorem sJ7_resize_162 : Rn r 206 162 [l0, l1, l2, l3, l4, l5, l6, l7, l8, l9, l10, l11, l12, l13] [vR z0, vR z1] h Q ↔ Rn r 206 164 [l0, l1, l2, l3, l4, l5, l6, l7, some (vR z0), l9, l10, l11, l12, l13] [vR z1] h Q := Rn_nx pg206 rfl rfl
theorem sJ7_resize_164 : Rn r 206 164 [l0, l1, l2, l3, l4, l5, l6, l7, l8, l9, l10, l11, l12, l13] [vR z0] h Q ↔ if z0 = none then Rn r 206 347 [l0, l1, l2, l3, l4, l5, l6, l7, l8, l9, l10, l11, l12, l13] [] h Q else Rn r 206 167 [l0, l1, l2, l3, l4, l5, l6, l7, l8, l9, l10, l11, l12, l13] [] h Q := Rn_if pg206 rfl rfl rfl
theorem sJ7_resize_167 : Rn r 206 167 [l0, some (vR z), l2, l3, l4, l5, l6, l7, l8, l9, l10, l11, l12, l13] [] h Q ↔ Rn r 206 168 [l0, some (vR z), l2, l3, l4, l5, l6, l7, l8, l9, l10, l11, l12, l13] [vR z] h Q := Rn_nx pg206 rfl rfl
theorem sJ7_resize_168 : Rn r 206 168 [l0, l1, l2, l3, l4, l5, l6, some (vI x), l8, l9, l10, l11, l12, l13] [vR z0] h Q ↔ Rn r 206 170 [l0, l1, l2, l3, l4, l5, l6, some (vI x), l8, l9, l10, l11, l12, l13] [vI x, vR z0] h Q := Rn_nx pg206 rfl rfl
theorem sJ7_resize_170 : Rn r 206 170 [l0, l1, l2, l3, l4, l5, l6, l7, l8, l9, l10, l11, l12, l13] [vI x0, vR z1] h Q ↔ Rn r 206 171 [l0, l1, l2, l3, l4, l5, l6, l7, l8, l9, l10, l11, l12, l13] [vR none, vI x0, vR z1] h Q := Rn_nx pg206 rfl rfl
theorem sJ7_resize_171_n (hk : hK h a2 = 46 ∨ hK h a2 = 48) (hx : ¬ (x1 < 0 ∨ hL h a2 ≤ x1.toNatClampNeg)) : Rn r 206 171 [l0, l1, l2, l3, l4, l5, l6, l7, l8, l9, l10, l11, l12, l13] [vR none, vI x1, vR (some a2)] h Q ↔ Rn r 206 172 [l0, l1, l2, l3, l4, l5, l6, l7, l8, l9, l10, l11, l12, l13] [] (putR h a2 x1.toNatClampNeg none) Q := Rn_nx pg206 rfl ((if_pos hk).trans (if_neg hx))
theorem sJ7_resize_171 (hk : (hK h a2 = 46 ∧ 0 < hK h a0 ∧ hK h a0 < 40) ∨ (hK h a2 = 48 ∧ 12 ≤ hK h a0 ∧ hK h a0 ≤ 13)) (hx : ¬ (x1 < 0 ∨ hL h a2 ≤ x1.toNatClampNeg)) : Rn r 206 171 [l0, l1, l2, l3, l4, l5, l6, l7, l8, l9, l10, l11, l12, l13] [vR (some a0), vI x1, vR (some a2)] h Q ↔ Rn r 206 172 [l0, l1, l2, l3, l4, l5, l6, l7, l8, l9, l10, l11, l12, l13] [] (putR h a2 x1.toNatClampNeg (some a0)) Q := Rn_nx pg206 rfl ((if_pos hk).trans (if_neg hx))
theorem sJ7_resize_172 : Rn r 206 172 [l0, l1, l2, l3, l4, l5, l6, l7, some (vR z), l9, l10, l11, l12, l13] [] h Q ↔ Rn r 206 174 [l0, l1, l2, l3, l4, l5, l6, l7, some (vR z), l9, l10, l11, l12, l13] [vR z] h Q := Rn_nx pg206 rfl rfl
theorem sJ7_resize_174 (hk : 12 ≤ hK h a0) (hk2 : hK h a0 ≤ 13) : Rn r 206 174 [l0, l1, l2, l3, l4, l5, l6, l7, l8, l9, l10, l11, l12, l13] [vR (some a0)] h Q ↔ Rn r 206 177 [l0, l1, l2, l3, l4, l5, l6, l7, l8, l9, l10, l11, l12, l13] [vR (hR h a0 3)] h Q := Rn_nx pg206 rfl (if_pos ⟨hk, hk2⟩)
theorem sJ7_resize_177 : Rn r 206 177 [l0, l1, l2, l3, l4, l5, l6, l7, l8, l9, l10, l11, l12, l13] [vR z0] h Q ↔ if z0 ≠ none then Rn r 206 198 [l0, l1, l2, l3, l4, l5, l6, l7, l8, l9, l10, l11, l12, l13] [] h Q else Rn r 206 180 [l0, l1, l2, l3, l4, l5, l6, l7, l8, l9, l10, l11, l12, l13] [] h Q := Rn_if pg206 rfl rfl rfl
theorem sJ7_resize_180 : Rn r 206 180 [l0, l1, l2, l3, l4, l5, some (vR z), l7, l8, l9, l10, l11, l12, l13] [] h Q ↔ Rn r 206 182 [l0, l1, l2, l3, l4, l5, some (vR z), l7, l8, l9, l10, l11, l12, l13] [vR z] h Q := Rn_nx pg206 rfl rfl
theorem sJ7_resize_182 : Rn r 206 182 [l0, l1, l2, l3, l4, l5, l6, l7, some (vR z), l9, l10, l11, l12, l13] [vR z0] h Q ↔ Rn r 206 184 [l0, l1, l2, l3, l4, l5, l6, l7, some (vR z), l9, l10, l11, l12, l13] [vR z, vR z0] h Q := Rn_nx pg206 rfl rfl
theorem sJ7_resize_184 (hk : 12 ≤ hK h a0) (hk2 : hK h a0 ≤ 13) : Rn r 206 184 [l0, l1, l2, l3, l4, l5, l6, l7, l8, l9, l10, l11, l12, l13] [vR (some a0), vR z1] h Q ↔ Rn r 206 187 [l0, l1, l2, l3, l4, l5, l6, l7, l8, l9, l10, l11, l12, l13] [vI (hI h a0 0), vR z1] h Q := Rn_nx pg206 rfl (if_pos ⟨hk, hk2⟩)
theorem sJ7_resize_187 : Rn r 206 187 [l0, l1, l2, l3, some (vI x), l5, l6, l7, l8, l9, l10, l11, l12, l13] [vI x0, vR z1] h Q ↔ Rn r 206 189 [l0, l1, l2, l3, some (vI x), l5, l6, l7, l8, l9, l10, l11, l12, l13] [vI x, vI x0, vR z1] h Q := Rn_nx pg206 rfl rfl
theorem sJ7_resize_189 : Rn r 206 189 [l0, l1, l2, l3, l4, l5, l6, l7, l8, l9, l10, l11, l12, l13] [vI x0, vI x1, vR z2] h Q ↔ Rn r 206 190 [l0, l1, l2, l3, l4, l5, l6, l7, l8, l9, l10, l11, l12, l13] [vI 1, vI x0, vI x1, vR z2] h Q := Rn_nx pg206 rfl rfl
theorem sJ7_resize_190 : Rn r 206 190 [l0, l1, l2, l3, l4, l5, l6, l7, l8, l9, l10, l11, l12, l13] [vI x0, vI x1, vI x2, vR z3] h Q ↔ Rn r 206 191 [l0, l1, l2, l3, l4, l5, l6, l7, l8, l9, l10, l11, l12, l13] [vI (x1 - x0), vI x2, vR z3] h Q := Rn_nx pg206 rfl rfl
theorem sJ7_resize_191 : Rn r 206 191 [l0, l1, l2, l3, l4, l5, l6, l7, l8, l9, l10, l11, l12, l13] [vI x0, vI x1, vR z2] h Q ↔ Rn r 206 192 [l0, l1, l2, l3, l4, l5, l6, l7, l8, l9, l10, l11, l12, l13] [vI (x1 &&& x0), vR z2] h Q := Rn_nx pg206 rfl rfl
theorem sJ7_resize_192 : Rn r 206 192 [l0, l1, l2, l3, l4, l5, l6, l7, some (vR z), l9, l10, l11, l12, l13] [vI x0, vR z1] h Q ↔ Rn r 206 194 [l0, l1, l2, l3, l4, l5, l6, l7, some (vR z), l9, l10, l11, l12, l13] [vR z, vI x0, vR z1] h Q := Rn_nx pg206 rfl rfl
theorem sJ7_resize_194_n (hk : hK h a2 = 46 ∨ hK h a2 = 48) (hx : ¬ (x1 < 0 ∨ hL h a2 ≤ x1.toNatClampNeg)) : Rn r 206 194 [l0, l1, l2, l3, l4, l5, l6, l7, l8, l9, l10, l11, l12, l13] [vR none, vI x1, vR (some a2)] h Q ↔ Rn r 206 195 [l0, l1, l2, l3, l4, l5, l6, l7, l8, l9, l10, l11, l12, l13] [] (putR h a2 x1.toNatClampNeg none) Q := Rn_nx pg206 rfl ((if_pos hk).trans (if_neg hx))
theorem sJ7_resize_194 (hk : (hK h a2 = 46 ∧ 0 < hK h a0 ∧ hK h a0 < 40) ∨ (hK h a2 = 48 ∧ 12 ≤ hK h a0 ∧ hK h a0 ≤ 13)) (hx : ¬ (x1 < 0 ∨ hL h a2 ≤ x1.toNatClampNeg)) : Rn r 206 194 [l0, l1, l2, l3, l4, l5, l6, l7, l8, l9, l10, l11, l12, l13] [vR (some a0), vI x1, vR (some a2)] h Q ↔ Rn r 206 195 [l0, l1, l2, l3, l4, l5, l6, l7, l8, l9, l10, l11, l12, l13] [] (putR h a2 x1.toNatClampNeg (some a0)) Q := Rn_nx pg206 rfl ((if_pos hk).trans (if_neg hx))
theorem sJ7_resize_195 : Rn r 206 195 [l0, l1, l2, l3, l4, l5, l6, l7, l8, l9, l10, l11, l12, l13] [] h Q ↔ Rn r 206 347 [l0, l1, l2, l3, l4, l5, l6, l7, l8, l9, l10, l11, l12, l13] [] h Q := Rn_nx pg206 rfl rfl
theorem sJ7_resize_198 : Rn r 206 198 [l0, l1, l2, l3, l4, l5, l6, l7, some (vR z), l9, l10, l11, l12, l13] [] h Q ↔ Rn r 206 200 [l0, l1, l2, l3, l4, l5, l6, l7, some (vR z), l9, l10, l11, l12, l13] [vR z] h Q := Rn_nx pg206 rfl rfl
theorem sJ7_resize_200_n : Rn r 206 200 [l0, l1, l2, l3, l4, l5, l6, l7, l8, l9, l10, l11, l12, l13] [vR none] h Q ↔ Rn r 206 203 [l0, l1, l2, l3, l4, l5, l6, l7, l8, l9, l10, l11, l12, l13] [vI 0] h Q := Rn_nx pg206 rfl rfl
theorem sJ7_resize_200 (hk : hK h a0 ∈ [13]) : Rn r 206 200 [l0, l1, l2, l3, l4, l5, l6, l7, l8, l9, l10, l11, l12, l13] [vR (some a0)] h Q ↔ Rn r 206 203 [l0, l1, l2, l3, l4, l5, l6, l7, l8, l9, l10, l11, l12, l13] [vI 1] h Q := Rn_nx pg206 rfl (if_pos hk)
theorem sJ7_resize_200_f (hk : hK h a0 ∉ [13]) (hk2 : am_look (hK h a0) [(12, 0)] = some 0) : Rn r 206 200 [l0, l1, l2, l3, l4, l5, l6, l7, l8, l9, l10, l11, l12, l13] [vR (some a0)] h Q ↔ Rn r 206 203 [l0, l1, l2, l3, l4, l5, l6, l7, l8, l9, l10, l11, l12, l13] [vI 0] h Q := Rn_nx pg206 rfl ((if_neg hk).trans (by rw [hk2]; rfl))
theorem sJ7_resize_203 : Rn r 206 203 [l0, l1, l2, l3, l4, l5, l6, l7, l8, l9, l10, l11, l12, l13] [vI x0] h Q ↔ if x0 = 0 then Rn r 206 223 [l0, l1, l2, l3, l4, l5, l6, l7, l8, l9, l10, l11, l12, l13] [] h Q else Rn r 206 206 [l0, l1, l2, l3, l4, l5, l6, l7, l8, l9, l10, l11, l12, l13] [] h Q := Rn_if pg206 rfl rfl rfl
theorem sJ7_resize_206 : Rn r 206 206 [l0, l1, l2, l3, l4, l5, l6, l7, some (vR z), l9, l10, l11, l12, l13] [] h Q ↔ Rn r 206 208 [l0, l1, l2, l3, l4, l5, l6, l7, some (vR z), l9, l10, l11, l12, l13] [vR z] h Q := Rn_nx pg206 rfl rfl
theorem sJ7_resize_208_n : Rn r 206 208 [l0, l1, l2, l3, l4, l5, l6, l7, l8, l9, l10, l11, l12, l13] [vR none] h Q ↔ Rn r 206 211 [l0, l1, l2, l3, l4, l5, l6, l7, l8, l9, l10, l11, l12, l13] [vR none] h Q := Rn_nx pg206 rfl rfl
theorem sJ7_resize_208 (hk : hK h a0 ∈ [13]) : Rn r 206 208 [l0, l1, l2, l3, l4, l5, l6, l7, l8, l9, l10, l11, l12, l13] [vR (some a0)] h Q ↔ Rn r 206 211 [l0, l1, l2, l3, l4, l5, l6, l7, l8, l9, l10, l11, l12, l13] [vR (some a0)] h Q := Rn_nx pg206 rfl (if_pos hk)
theorem sJ7_resize_211 : Rn r 206 211 [some (vR z), l1, l2, l3, l4, l5, l6, l7, l8, l9, l10, l11, l12, l13] [vR z0] h Q ↔ Rn r 206 212 [some (vR z), l1, l2, l3, l4, l5, l6, l7, l8, l9, l10, l11, l12, l13] [vR z, vR z0] h Q := Rn_nx pg206 rfl rfl
theorem sJ7_resize_212 : Rn r 206 212 [l0, l1, l2, l3, l4, l5, some (vR z), l7, l8, l9, l10, l11, l12, l13] [vR z0, vR z1] h Q ↔ Rn r 206 214 [l0, l1, l2, l3, l4, l5, some (vR z), l7, l8, l9, l10, l11, l12, l13] [vR z, vR z0, vR z1] h Q := Rn_nx pg206 rfl rfl
theorem sJ7_resize_214 : Rn r 206 214 [l0, l1, l2, l3, l4, l5, l6, some (vI x), l8, l9, l10, l11, l12, l13] [vR z0, vR z1, vR z2] h Q ↔ Rn r 206 216 [l0, l1, l2, l3, l4, l5, l6, some (vI x), l8, l9, l10, l11, l12, l13] [vI x, vR z0, vR z1, vR z2] h Q := Rn_nx pg206 rfl rfl
theorem sJ7_resize_216 : Rn r 206 216 [l0, l1, some (vI x), l3, l4, l5, l6, l7, l8, l9, l10, l11, l12, l13] [vI x0, vR z1, vR z2, vR z3] h Q ↔ Rn r 206 217 [l0, l1, some (vI x), l3, l4, l5, l6, l7, l8, l9, l10, l11, l12, l13] [vI x, vI x0, vR z1, vR z2, vR z3] h Q := Rn_nx pg206 rfl rfl
theorem sJ7_resize_220 : Rn r 206 220 [l0, l1, l2, l3, l4, l5, l6, l7, l8, l9, l10, l11, l12, l13] [] h Q ↔ Rn r 206 347 [l0, l1, l2, l3, l4, l5, l6, l7, l8, l9, l10, l11, l12, l13] [] h Q := Rn_nx pg206 rfl rfl
theorem sJ7_resize_223 : Rn r 206 223 [l0, l1, l2, l3, l4, l5, l6, l7, l8, l9, l10, l11, l12, l13] [] h Q ↔ Rn r 206 224 [l0, l1, l2, l3, l4, l5, l6, l7, l8, l9, l10, l11, l12, l13] [vR none] h Q := Rn_nx pg206 rfl rfl
theorem sJ7_resize_224 : Rn r 206 224 [l0, l1, l2, l3, l4, l5, l6, l7, l8, l9, l10, l11, l12, l13] [vR z0] h Q ↔ Rn r 206 226 [l0, l1, l2, l3, l4, l5, l6, l7, l8, some (vR z0), l10, l11, l12, l13] [] h Q := Rn_nx pg206 rfl rfl
theorem sJ7_resize_226 : Rn r 206 226 [l0, l1, l2, l3, l4, l5, l6, l7, l8, l9, l10, l11, l12, l13] [] h Q ↔ Rn r 206 227 [l0, l1, l2, l3, l4, l5, l6, l7, l8, l9, l10, l11, l12, l13] [vR none] h Q := Rn_nx pg206 rfl rfl
theorem sJ7_resize_227 : Rn r 206 227 [l0, l1, l2, l3, l4, l5, l6, l7, l8, l9, l10, l11, l12, l13] [vR z0] h Q ↔ Rn r 206 229 [l0, l1, l2, l3, l4, l5, l6, l7, l8, l9, some (vR z0), l11, l12, l13] [] h Q := Rn_nx pg206 rfl rfl
theorem sJ7_resize_229 : Rn r 206 229 [l0, l1, l2, l3, l4, l5, l6, l7, l8, l9, l10, l11, l12, l13] [] h Q ↔ Rn r 206 230 [l0, l1, l2, l3, l4, l5, l6, l7, l8, l9, l10, l11, l12, l13] [vR none] h Q := Rn_nx pg206 rfl rfl
theorem sJ7_resize_230 : Rn r 206 230 [l0, l1, l2, l3, l4, l5, l6, l7, l8, l9, l10, l11, l12, l13] [vR z0] h Q ↔ Rn r 206 232 [l0, l1, l2, l3, l4, l5, l6, l7, l8, l9, l10, some (vR z0), l12, l13] [] h Q := Rn_nx pg206 rfl rfl
theorem sJ7_resize_232 : Rn r 206 232 [l0, l1, l2, l3, l4, l5, l6, l7, l8, l9, l10, l11, l12, l13] [] h Q ↔ Rn r 206 233 [l0, l1, l2, l3, l4, l5, l6, l7, l8, l9, l10, l11, l12, l13] [vR none] h Q := Rn_nx pg206 rfl rfl
theorem sJ7_resize_233 : Rn r 206 233 [l0, l1, l2, l3, l4, l5, l6, l7, l8, l9, l10, l11, l12, l13] [vR z0] h Q ↔ Rn r 206 235 [l0, l1, l2, l3, l4, l5, l6, l7, l8, l9, l10, l11, some (vR z0), l13] [] h Q := Rn_nx pg206 rfl rfl
theorem sJ7_resize_235 : Rn r 206 235 [l0, l1, l2, l3, l4, l5, l6, l7, some (vR z), l9, l10, l11, l12, l13] [] h Q ↔ Rn r 206 237 [l0, l1, l2, l3, l4, l5, l6, l7, some (vR z), l9, l10, l11, l12, l13] [vR z] h Q := Rn_nx pg206 rfl rfl
theorem sJ7_resize_237 (hk : 12 ≤ hK h a0) (hk2 : hK h a0 ≤ 13) : Rn r 206 237 [l0, l1, l2, l3, l4, l5, l6, l7, l8, l9, l10, l11, l12, l13] [vR (some a0)] h Q ↔ Rn r 206 240 [l0, l1, l2, l3, l4, l5, l6, l7, l8, l9, l10, l11, l12, l13] [vR (hR h a0 3)] h Q := Rn_nx pg206 rfl (if_pos ⟨hk, hk2⟩)
theorem sJ7_resize_240 : Rn r 206 240 [l0, l1, l2, l3, l4, l5, l6, l7, l8, l9, l10, l11, l12, l13] [vR z0] h Q ↔ Rn r 206 242 [l0, l1, l2, l3, l4, l5, l6, l7, l8, l9, l10, l11, l12, some (vR z0)] [] h Q := Rn_nx pg206 rfl rfl
theorem sJ7_resize_242 : Rn r 206 242 [l0, l1, l2, l3, l4, l5, l6, l7, some (vR z), l9, l10, l11, l12, l13] [] h Q ↔ Rn r 206 244 [l0, l1, l2, l3, l4, l5, l6, l7, some (vR z), l9, l10, l11, l12, l13] [vR z] h Q := Rn_nx pg206 rfl rfl
theorem sJ7_resize_244 (hk : 12 ≤ hK h a0) (hk2 : hK h a0 ≤ 13) : Rn r 206 244 [l0, l1, l2, l3, l4, l5, l6, l7, l8, l9, l10, l11, l12, l13] [vR (some a0)] h Q ↔ Rn r 206 247 [l0, l1, l2, l3, l4, l5, l6, l7, l8, l9, l10, l11, l12, l13] [vI (hI h a0 0)] h Q := Rn_nx pg206 rfl (if_pos ⟨hk, hk2⟩)
theorem sJ7_resize_247 : Rn r 206 247 [l0, l1, some (vI x), l3, l4, l5, l6, l7, l8, l9, l10, l11, l12, l13] [vI x0] h Q ↔ Rn r 206 248 [l0, l1, some (vI x), l3, l4, l5, l6, l7, l8, l9, l10, l11, l12, l13] [vI x, vI x0] h Q := Rn_nx pg206 rfl rfl
theorem sJ7_resize_248 : Rn r 206 248 [l0, l1, l2, l3, l4, l5, l6, l7, l8, l9, l10, l11, l12, l13] [vI x0, vI x1] h Q ↔ Rn r 206 249 [l0, l1, l2, l3, l4, l5, l6, l7, l8, l9, l10, l11, l12, l13] [vI (x1 &&& x0)] h Q := Rn_nx pg206 rfl rfl
theorem sJ7_resize_249 : Rn r 206 249 [l0, l1, l2, l3, l4, l5, l6, l7, l8, l9, l10, l11, l12, l13] [vI x0] h Q ↔ if x0 ≠ 0 then Rn r 206 278 [l0, l1, l2, l3, l4, l5, l6, l7, l8, l9, l10, l11, l12, l13] [] h Q else Rn r 206 252 [l0, l1, l2, l3, l4, l5, l6, l7, l8, l9, l10, l11, l12, l13] [] h Q := Rn_if pg206 rfl rfl rfl
theorem sJ7_resize_252 : Rn r 206 252 [l0, l1, l2, l3, l4, l5, l6, l7, l8, l9, some (vR z), l11, l12, l13] [] h Q ↔ Rn r 206 254 [l0, l1, l2, l3, l4, l5, l6, l7, l8, l9, some (vR z), l11, l12, l13] [vR z] h Q := Rn_nx pg206 rfl rfl
theorem sJ7_resize_254 : Rn r 206 254 [l0, l1, l2, l3, l4, l5, l6, l7, l8, l9, l10, l11, l12, l13] [vR z0] h Q ↔ if z0 ≠ none then Rn r 206 264 [l0, l1, l2, l3, l4, l5, l6, l7, l8, l9, l10, l11, l12, l13] [] h Q else Rn r 206 257 [l0, l1, l2, l3, l4, l5, l6, l7, l8, l9, l10, l11, l12, l13] [] h Q := Rn_if pg206 rfl rfl rfl
theorem sJ7_resize_257 : Rn r 206 257 [l0, l1, l2, l3, l4, l5, l6, l7, some (vR z), l9, l10, l11, l12, l13] [] h Q ↔ Rn r 206 259 [l0, l1, l2, l3, l4, l5, l6, l7, some (vR z), l9, l10, l11, l12, l13] [vR z] h Q := Rn_nx pg206 rfl rfl
theorem sJ7_resize_259 : Rn r 206 259 [l0, l1, l2, l3, l4, l5, l6, l7, l8, l9, l10, l11, l12, l13] [vR z0] h Q ↔ Rn r 206 261 [l0, l1, l2, l3, l4, l5, l6, l7, l8, some (vR z0), l10, l11, l12, l13] [] h Q := Rn_nx pg206 rfl rfl
theorem sJ7_resize_261 : Rn r 206 261 [l0, l1, l2, l3, l4, l5, l6, l7, l8, l9, l10, l11, l12, l13] [] h Q ↔ Rn r 206 271 [l0, l1, l2, l3, l4, l5, l6, l7, l8, l9, l10, l11, l12, l13] [] h Q := Rn_nx pg206 rfl rfl
theorem sJ7_resize_264 : Rn r 206 264 [l0, l1, l2, l3, l4, l5, l6, l7, l8, l9, some (vR z), l11, l12, l13] [] h Q ↔ Rn r 206 266 [l0, l1, l2, l3, l4, l5, l6, l7, l8, l9, some (vR z), l11, l12, l13] [vR z] h Q := Rn_nx pg206 rfl rfl
theorem sJ7_resize_266 : Rn r 206 266 [l0, l1, l2, l3, l4, l5, l6, l7, some (vR z), l9, l10, l11, l12, l13] [vR z0] h Q ↔ Rn r 206 268 [l0, l1, l2, l3, l4, l5, l6, l7, some (vR z), l9, l10, l11, l12, l13] [vR z, vR z0] h Q := Rn_nx pg206 rfl rfl
theorem sJ7_resize_268 (hk : 12 ≤ hK h a1) (hk2 : hK h a1 ≤ 13) : Rn r 206 268 [l0, l1, l2, l3, l4, l5, l6, l7, l8, l9, l10, l11, l12, l13] [vR z0, vR (some a1)] h Q ↔ Rn r 206 271 [l0, l1, l2, l3, l4, l5, l6, l7, l8, l9, l10, l11, l12, l13] [] (putR h a1 3 z0) Q := Rn_nx pg206 rfl ((if_pos ⟨hk, hk2⟩).trans rfl)
theorem sJ7_resize_271 : Rn r 206 271 [l0, l1, l2, l3, l4, l5, l6, l7, some (vR z), l9, l10, l11, l12, l13] [] h Q ↔ Rn r 206 273 [l0, l1, l2, l3, l4, l5, l6, l7, some (vR z), l9, l10, l11, l12, l13] [vR z] h Q := Rn_nx pg206 rfl rfl
theorem sJ7_resize_273 : Rn r 206 273 [l0, l1, l2, l3, l4, l5, l6, l7, l8, l9, l10, l11, l12, l13] [vR z0] h Q ↔ Rn r 206 275 [l0, l1, l2, l3, l4, l5, l6, l7, l8, l9, some (vR z0), l11, l12, l13] [] h Q := Rn_nx pg206 rfl rfl
theorem sJ7_resize_275 : Rn r 206 275 [l0, l1, l2, l3, l4, l5, l6, l7, l8, l9, l10, l11, l12, l13] [] h Q ↔ Rn r 206 301 [l0, l1, l2, l3, l4, l5, l6, l7, l8, l9, l10, l11, l12, l13] [] h Q := Rn_nx pg206 rfl rfl
theorem sJ7_resize_278 : Rn r 206 278 [l0, l1, l2, l3, l4, l5, l6, l7, l8, l9, l10, l11, some (vR z), l13] [] h Q ↔ Rn r 206 280 [l0, l1, l2, l3, l4, l5, l6, l7, l8, l9, l10, l11, some (vR z), l13] [vR z] h Q := Rn_nx pg206 rfl rfl
theorem sJ7_resize_280 : Rn r 206 280 [l0, l1, l2, l3, l4, l5, l6, l7, l8, l9, l10, l11, l12, l13] [vR z0] h Q ↔ if z0 ≠ none then Rn r 206 290 [l0, l1, l2, l3, l4, l5, l6, l7, l8, l9, l10, l11, l12, l13] [] h Q else Rn r 206 283 [l0, l1, l2, l3, l4, l5, l6, l7, l8, l9, l10, l11, l12, l13] [] h Q := Rn_if pg206 rfl rfl rfl
theorem sJ7_resize_283 : Rn r 206 283 [l0, l1, l2, l3, l4, l5, l6, l7, some (vR z), l9, l10, l11, l12, l13] [] h Q ↔ Rn r 206 285 [l0, l1, l2, l3, l4, l5, l6, l7, some (vR z), l9, l10, l11, l12, l13] [vR z] h Q := Rn_nx pg206 rfl rfl
theorem sJ7_resize_285 : Rn r 206 285 [l0, l1, l2, l3, l4, l5, l6, l7, l8, l9, l10, l11, l12, l13] [vR z0] h Q ↔ Rn r 206 287 [l0, l1, l2, l3, l4, l5, l6, l7, l8, l9, l10, some (vR z0), l12, l13] [] h Q := Rn_nx pg206 rfl rfl
theorem sJ7_resize_287 : Rn r 206 287 [l0, l1, l2, l3, l4, l5, l6, l7, l8, l9, l10, l11, l12, l13] [] h Q ↔ Rn r 206 297 [l0, l1, l2, l3, l4, l5, l6, l7, l8, l9, l10, l11, l12, l13] [] h Q := Rn_nx pg206 rfl rfl
theorem sJ7_resize_290 : Rn r 206 290 [l0, l1, l2, l3, l4, l5, l6, l7, l8, l9, l10, l11, some (vR z), l13] [] h Q ↔ Rn r 206 292 [l0, l1, l2, l3, l4, l5, l6, l7, l8, l9, l10, l11, some (vR z), l13] [vR z] h Q := Rn_nx pg206 rfl rfl
theorem sJ7_resize_292 : Rn r 206 292 [l0, l1, l2, l3, l4, l5, l6, l7, some (vR z), l9, l10, l11, l12, l13] [vR z0] h Q ↔ Rn r 206 294 [l0, l1, l2, l3, l4, l5, l6, l7, some (vR z), l9, l10, l11, l12, l13] [vR z, vR z0] h Q := Rn_nx pg206 rfl rfl
theorem sJ7_resize_294 (hk : 12 ≤ hK h a1) (hk2 : hK h a1 ≤ 13) : Rn r 206 294 [l0, l1, l2, l3, l4, l5, l6, l7, l8, l9, l10, l11, l12, l13] [vR z0, vR (some a1)] h Q ↔ Rn r 206 297 [l0, l1, l2, l3, l4, l5, l6, l7, l8, l9, l10, l11, l12, l13] [] (putR h a1 3 z0) Q := Rn_nx pg206 rfl ((if_pos ⟨hk, hk2⟩).trans rfl)
theorem sJ7_resize_297 : Rn r 206 297 [l0, l1, l2, l3, l4, l5, l6, l7, some (vR z), l9, l10, l11, l12, l13] [] h Q ↔ Rn r 206 299 [l0, l1, l2, l3, l4, l5, l6, l7, some (vR z), l9, l10, l11, l12, l13] [vR z] h Q := Rn_nx pg206 rfl rfl
theorem sJ7_resize_299 : Rn r 206 299 [l0, l1, l2, l3, l4, l5, l6, l7, l8, l9, l10, l11, l12, l13] [vR z0] h Q ↔ Rn r 206 301 [l0, l1, l2, l3, l4, l5, l6, l7, l8, l9, l10, l11, some (vR z0), l13] [] h Q := Rn_nx pg206 rfl rfl
theorem sJ7_resize_301 : Rn r 206 301 [l0, l1, l2, l3, l4, l5, l6, l7, l8, l9, l10, l11, l12, some (vR z)] [] h Q ↔ Rn r 206 303 [l0, l1, l2, l3, l4, l5, l6, l7, l8, l9, l10, l11, l12, some (vR z)] [vR z] h Q := Rn_nx pg206 rfl rfl
theorem sJ7_resize_303 : Rn r 206 303 [l0, l1, l2, l3, l4, l5, l6, l7, l8, l9, l10, l11, l12, l13] [vR z0] h Q ↔ Rn r 206 304 [l0, l1, l2, l3, l4, l5, l6, l7, l8, l9, l10, l11, l12, l13] [vR z0, vR z0] h Q := Rn_nx pg206 rfl rfl
theorem sJ7_resize_304 : Rn r 206 304 [l0, l1, l2, l3, l4, l5, l6, l7, l8, l9, l10, l11, l12, l13] [vR z0, vR z1] h Q ↔ Rn r 206 306 [l0, l1, l2, l3, l4, l5, l6, l7, some (vR z0), l9, l10, l11, l12, l13] [vR z1] h Q := Rn_nx pg206 rfl rfl
theorem sJ7_resize_306 : Rn r 206 306 [l0, l1, l2, l3, l4, l5, l6, l7, l8, l9, l10, l11, l12, l13] [vR z0] h Q ↔ if z0 ≠ none then Rn r 206 235 [l0, l1, l2, l3, l4, l5, l6, l7, l8, l9, l10, l11, l12, l13] [] h Q else Rn r 206 309 [l0, l1, l2, l3, l4, l5, l6, l7, l8, l9, l10, l11, l12, l13] [] h Q := Rn_if pg206 rfl rfl rfl
theorem sJ7_resize_309 : Rn r 206 309 [l0, l1, l2, l3, l4, l5, l6, l7, l8, l9, some (vR z), l11, l12, l13] [] h Q ↔ Rn r 206 311 [l0, l1, l2, l3, l4, l5, l6, l7, l8, l9, some (vR z), l11, l12, l13] [vR z] h Q := Rn_nx pg206 rfl rfl
theorem sJ7_resize_311 : Rn r 206 311 [l0, l1, l2, l3, l4, l5, l6, l7, l8, l9, l10, l11, l12, l13] [vR z0] h Q ↔ if z0 = none then Rn r 206 327 [l0, l1, l2, l3, l4, l5, l6, l7, l8, l9, l10, l11, l12, l13] [] h Q else Rn r 206 314 [l0, l1, l2, l3, l4, l5, l6, l7, l8, l9, l10, l11, l12, l13] [] h Q := Rn_if pg206 rfl rfl rfl
theorem sJ7_resize_314 : Rn r 206 314 [l0, l1, l2, l3, l4, l5, l6, l7, l8, l9, some (vR z), l11, l12, l13] [] h Q ↔ Rn r 206 316 [l0, l1, l2, l3, l4, l5, l6, l7, l8, l9, some (vR z), l11, l12, l13] [vR z] h Q := Rn_nx pg206 rfl rfl
theorem sJ7_resize_316 : Rn r 206 316 [l0, l1, l2, l3, l4, l5, l6, l7, l8, l9, l10, l11, l12, l13] [vR z0] h Q ↔ Rn r 206 317 [l0, l1, l2, l3, l4, l5, l6, l7, l8, l9, l10, l11, l12, l13] [vR none, vR z0] h Q := Rn_nx pg206 rfl rfl
theorem sJ7_resize_317 (hk : 12 ≤ hK h a1) (hk2 : hK h a1 ≤ 13) : Rn r 206 317 [l0, l1, l2, l3, l4, l5, l6, l7, l8, l9, l10, l11, l12, l13] [vR z0, vR (some a1)] h Q ↔ Rn r 206 320 [l0, l1, l2, l3, l4, l5, l6, l7, l8, l9, l10, l11, l12, l13] [] (putR h a1 3 z0) Q := Rn_nx pg206 rfl ((if_pos ⟨hk, hk2⟩).trans rfl)
theorem sJ7_resize_320 : Rn r 206 320 [l0, l1, l2, l3, l4, l5, some (vR z), l7, l8, l9, l10, l11, l12, l13] [] h Q ↔ Rn r 206 322 [l0, l1, l2, l3, l4, l5, some (vR z), l7, l8, l9, l10, l11, l12, l13] [vR z] h Q := Rn_nx pg206 rfl rfl
theorem sJ7_resize_322 : Rn r 206 322 [l0, l1, l2, l3, l4, l5, l6, some (vI x), l8, l9, l10, l11, l12, l13] [vR z0] h Q ↔ Rn r 206 324 [l0, l1, l2, l3, l4, l5, l6, some (vI x), l8, l9, l10, l11, l12, l13] [vI x, vR z0] h Q := Rn_nx pg206 rfl rfl
theorem sJ7_resize_324 : Rn r 206 324 [l0, l1, l2, l3, l4, l5, l6, l7, l8, some (vR z), l10, l11, l12, l13] [vI x0, vR z1] h Q ↔ Rn r 206 326 [l0, l1, l2, l3, l4, l5, l6, l7, l8, some (vR z), l10, l11, l12, l13] [vR z, vI x0, vR z1] h Q := Rn_nx pg206 rfl rfl
theorem sJ7_resize_326_n (hk : hK h a2 = 46 ∨ hK h a2 = 48) (hx : ¬ (x1 < 0 ∨ hL h a2 ≤ x1.toNatClampNeg)) : Rn r 206 326 [l0, l1, l2, l3, l4, l5, l6, l7, l8, l9, l10, l11, l12, l13] [vR none, vI x1, vR (some a2)] h Q ↔ Rn r 206 327 [l0, l1, l2, l3, l4, l5, l6, l7, l8, l9, l10, l11, l12, l13] [] (putR h a2 x1.toNatClampNeg none) Q := Rn_nx pg206 rfl ((if_pos hk).trans (if_neg hx))
theorem sJ7_resize_326 (hk : (hK h a2 = 46 ∧ 0 < hK h a0 ∧ hK h a0 < 40) ∨ (hK h a2 = 48 ∧ 12 ≤ hK h a0 ∧ hK h a0 ≤ 13)) (hx : ¬ (x1 < 0 ∨ hL h a2 ≤ x1.toNatClampNeg)) : Rn r 206 326 [l0, l1, l2, l3, l4, l5, l6, l7, l8, l9, l10, l11, l12, l13] [vR (some a0), vI x1, vR (some a2)] h Q ↔ Rn r 206 327 [l0, l1, l2, l3, l4, l5, l6, l7, l8, l9, l10, l11, l12, l13] [] (putR h a2 x1.toNatClampNeg (some a0)) Q := Rn_nx pg206 rfl ((if_pos hk).trans (if_neg hx))
theorem sJ7_resize_327 : Rn r 206 327 [l0, l1, l2, l3, l4, l5, l6, l7, l8, l9, l10, l11, some (vR z), l13] [] h Q ↔ Rn r 206 329 [l0, l1, l2, l3, l4, l5, l6, l7, l8, l9, l10, l11, some (vR z), l13] [vR z] h Q := Rn_nx pg206 rfl rfl
theorem sJ7_resize_329 : Rn r 206 329 [l0, l1, l2, l3, l4, l5, l6, l7, l8, l9, l10, l11, l12, l13] [vR z0] h Q ↔ if z0 = none then Rn r 206 347 [l0, l1, l2, l3, l4, l5, l6, l7, l8, l9, l10, l11, l12, l13] [] h Q else Rn r 206 332 [l0, l1, l2, l3, l4, l5, l6, l7, l8, l9, l10, l11, l12, l13] [] h Q := Rn_if pg206 rfl rfl rfl
theorem sJ7_resize_332 : Rn r 206 332 [l0, l1, l2, l3, l4, l5, l6, l7, l8, l9, l10, l11, some (vR z), l13] [] h Q ↔ Rn r 206 334 [l0, l1, l2, l3, l4, l5, l6, l7, l8, l9, l10, l11, some (vR z), l13] [vR z] h Q := Rn_nx pg206 rfl rfl
theorem sJ7_resize_334 : Rn r 206 334 [l0, l1, l2, l3, l4, l5, l6, l7, l8, l9, l10, l11, l12, l13] [vR z0] h Q ↔ Rn r 206 335 [l0, l1, l2, l3, l4, l5, l6, l7, l8, l9, l10, l11, l12, l13] [vR none, vR z0] h Q := Rn_nx pg206 rfl rfl
theorem sJ7_resize_335 (hk : 12 ≤ hK h a1) (hk2 : hK h a1 ≤ 13) : Rn r 206 335 [l0, l1, l2, l3, l4, l5, l6, l7, l8, l9, l10, l11, l12, l13] [vR z0, vR (some a1)] h Q ↔ Rn r 206 338 [l0, l1, l2, l3, l4, l5, l6, l7, l8, l9, l10, l11, l12, l13] [] (putR h a1 3 z0) Q := Rn_nx pg206 rfl ((if_pos ⟨hk, hk2⟩).trans rfl)
theorem sJ7_resize_338 : Rn r 206 338 [l0, l1, l2, l3, l4, l5, some (vR z), l7, l8, l9, l10, l11, l12, l13] [] h Q ↔ Rn r 206 340 [l0, l1, l2, l3, l4, l5, some (vR z), l7, l8, l9, l10, l11, l12, l13] [vR z] h Q := Rn_nx pg206 rfl rfl
theorem sJ7_resize_340 : Rn r 206 340 [l0, l1, l2, l3, l4, l5, l6, some (vI x), l8, l9, l10, l11, l12, l13] [vR z0] h Q ↔ Rn r 206 342 [l0, l1, l2, l3, l4, l5, l6, some (vI x), l8, l9, l10, l11, l12, l13] [vI x, vR z0] h Q := Rn_nx pg206 rfl rfl
theorem sJ7_resize_342 : Rn r 206 342 [l0, l1, some (vI x), l3, l4, l5, l6, l7, l8, l9, l10, l11, l12, l13] [vI x0, vR z1] h Q ↔ Rn r 206 343 [l0, l1, some (vI x), l3, l4, l5, l6, l7, l8, l9, l10, l11, l12, l13] [vI x, vI x0, vR z1] h Q := Rn_nx pg206 rfl rfl
theorem sJ7_resize_343 : Rn r 206 343 [l0, l1, l2, l3, l4, l5, l6, l7, l8, l9, l10, l11, l12, l13] [vI x0, vI x1, vR z2] h Q ↔ Rn r 206 344 [l0, l1, l2, l3, l4, l5, l6, l7, l8, l9, l10, l11, l12, l13] [vI (x1 + x0), vR z2] h Q := Rn_nx pg206 rfl rfl
theorem sJ7_resize_344 : Rn r 206 344 [l0, l1, l2, l3, l4, l5, l6, l7, l8, l9, l10, some (vR z), l12, l13] [vI x0, vR z1] h Q ↔ Rn r 206 346 [l0, l1, l2, l3, l4, l5, l6, l7, l8, l9, l10, some (vR z), l12, l13] [vR z, vI x0, vR z1] h Q := Rn_nx pg206 rfl rfl
theorem sJ7_resize_346_n (hk : hK h a2 = 46 ∨ hK h a2 = 48) (hx : ¬ (x1 < 0 ∨ hL h a2 ≤ x1.toNatClampNeg)) : Rn r 206 346 [l0, l1, l2, l3, l4, l5, l6, l7, l8, l9, l10, l11, l12, l13] [vR none, vI x1, vR (some a2)] h Q ↔ Rn r 206 347 [l0, l1, l2, l3, l4, l5, l6, l7, l8, l9, l10, l11, l12, l13] [] (putR h a2 x1.toNatClampNeg none) Q := Rn_nx pg206 rfl ((if_pos hk).trans (if_neg hx))
theorem sJ7_resize_346 (hk : (hK h a2 = 46 ∧ 0 < hK h a0 ∧ hK h a0 < 40) ∨ (hK h a2 = 48 ∧ 12 ≤ hK h a0 ∧ hK h a0 ≤ 13)) (hx : ¬ (x1 < 0 ∨ hL h a2 ≤ x1.toNatClampNeg)) : Rn r 206 346 [l0, l1, l2, l3, l4, l5, l6, l7, l8, l9, l10, l11, l12, l13] [vR (some a0), vI x1, vR (some a2)] h Q ↔ Rn r 206 347 [l0, l1, l2, l3, l4, l5, l6, l7, l8, l9, l10, l11, l12, l13] [] (putR h a2 x1.toNatClampNeg (some a0)) Q := Rn_nx pg206 rfl ((if_pos hk).trans (if_neg hx))
theorem sJ7_resize_347 : Rn r 206 347 [l0, l1, l2, l3, l4, l5, l6, some (vI x), l8, l9, l10, l11, l12, l13] [] h Q ↔ Rn r 206 350 [l0, l1, l2, l3, l4, l5, l6, some (vI (x + 1)), l8, l9, l10, l11, l12, l13] [] h Q := Rn_nx pg206 rfl rfl
theorem sJ7_resize_350 : Rn r 206 350 [l0, l1, l2, l3, l4, l5, l6, l7, l8, l9, l10, l11, l12, l13] [] h Q ↔ Rn r 206 151 [l0, l1, l2, l3, l4, l5, l6, l7, l8, l9, l10, l11, l12, l13] [] h Q := Rn_nx pg206 rfl rfl
theorem sJ7_resize_353 : Rn r 206 353 [l0, l1, l2, l3, l4, l5, some (vR z), l7, l8, l9, l10, l11, l12, l13] [] h Q ↔ Rn r 206 355 [l0, l1, l2, l3, l4, l5, some (vR z), l7, l8, l9, l10, l11, l12, l13] [vR z] h Q := Rn_nx pg206 rfl rfl
theorem sJ7_resize_355 : Rn r 206 355 [l0, l1, l2, l3, l4, l5, l6, l7, l8, l9, l10, l11, l12, l13] [vR z0] h Q ↔ Q (Sum.inl (some (vR z0))) h := Rn_end pg206 rfl rfl
/-! 207 java/util/HashMap.newNode(ILjava/lang/Object;Ljava/lang/Object;Ljava/util/HashMap$Node;)Ljava/util/HashMap$Node; -/
theorem eJ7_newNode : Cl r 207 [vR z0, vI x1, vR z2, vR z3, vR z4] h Q ↔ Rn r 207 0 [some (vR z0), some (vI x1), some (vR z2), some (vR z3), some (vR z4)] [] h Q := Cl_in pg207 rfl
theorem sJ7_newNode_0 : Rn r 207 0 [l0, l1, l2, l3, l4] [] h Q ↔ Rn r 207 3 [l0, l1, l2, l3, l4] [vR (some (hN h))] (newC h 12 4) Q := Rn_nx pg207 rfl rfl
theorem sJ7_newNode_3 : Rn r 207 3 [l0, l1, l2, l3, l4] [vR z0] h Q ↔ Rn r 207 4 [l0, l1, l2, l3, l4] [vR z0, vR z0] h Q := Rn_nx pg207 rfl rfl
theorem sJ7_newNode_4 : Rn r 207 4 [l0, some (vI x), l2, l3, l4] [vR z0, vR z1] h Q ↔ Rn r 207 5 [l0, some (vI x), l2, l3, l4] [vI x, vR z0, vR z1] h Q := Rn_nx pg207 rfl rfl
theorem sJ7_newNode_5 : Rn r 207 5 [l0, l1, some (vR z), l3, l4] [vI x0, vR z1, vR z2] h Q ↔ Rn r 207 6 [l0, l1, some (vR z), l3, l4] [vR z, vI x0, vR z1, vR z2] h Q := Rn_nx pg207 rfl rfl
theorem sJ7_newNode_6 : Rn r 207 6 [l0, l1, l2, some (vR z), l4] [vR z0, vI x1, vR z2, vR z3] h Q ↔ Rn r 207 7 [l0, l1, l2, some (vR z), l4] [vR z, vR z0, vI x1, vR z2, vR z3] h Q := Rn_nx pg207 rfl rfl
theorem sJ7_newNode_7 : Rn r 207 7 [l0, l1, l2, l3, some (vR z)] [vR z0, vR z1, vI x2, vR z3, vR z4] h Q ↔ Rn r 207 9 [l0, l1, l2, l3, some (vR z)] [vR z, vR z0, vR z1, vI x2, vR z3, vR z4] h Q := Rn_nx pg207 rfl rfl
theorem sJ7_newNode_9 (hk : 0 < hK h a4) (hk2 : hK h a4 < 40) : Rn r 207 9 [l0, l1, l2, l3, l4] [vR z0, vR z1, vR z2, vI x3, vR (some a4), vR z5] h Q ↔ Cl r 258 [vR (some a4), vI x3, vR z2, vR z1, vR z0] h (Kt r 207 12 [l0, l1, l2, l3, l4] [vR z5] Q) := Rn_call pg207 rfl (if_pos ⟨hk, hk2⟩) pg258 rfl rfl rfl
theorem sJ7_newNode_12 : Rn r 207 12 [l0, l1, l2, l3, l4] [vR z0] h Q ↔ Q (Sum.inl (some (vR z0))) h := Rn_end pg207 rfl rfl
/-! 208 java/util/HashMap$TreeNode.putTreeVal(Ljava/util/HashMap;[Ljava/util/HashMap$Node;ILjava/lang/Object;Ljava/lang/Object;)Ljava/util/HashMap$TreeNode; -/
theorem eJ21_putTreeVal : Cl r 208 [vR z0, vR z1, vR z2, vI x3, vR z4, vR z5] h Q ↔ Rn r 208 0 [some (vR z0), some (vR z1), some (vR z2), some (vI x3), some (vR z4), some (vR z5), none, none, none, none, none, none, none, none, none, none] [] h Q := Cl_in pg208 rfl
theorem sJ21_putTreeVal_0 : Rn r 208 0 [l0, l1, l2, l3, l4, l5, l6, l7, l8, l9, l10, l11, l12, l13, l14, l15] [] h Q ↔ Rn r 208 1 [l0, l1, l2, l3, l4, l5, l6, l7, l8, l9, l10, l11, l12, l13, l14, l15] [vR none] h Q := Rn_nx pg208 rfl rfl
theorem sJ21_putTreeVal_1 : Rn r 208 1 [l0, l1, l2, l3, l4, l5, l6, l7, l8, l9, l10, l11, l12, l13, l14, l15] [vR z0] h Q ↔ Rn r 208 3 [l0, l1, l2, l3, l4, l5, some (vR z0), l7, l8, l9, l10, l11, l12, l13, l14, l15] [] h Q := Rn_nx pg208 rfl rfl
theorem sJ21_putTreeVal_3 : Rn r 208 3 [l0, l1, l2, l3, l4, l5, l6, l7, l8, l9, l10, l11, l12, l13, l14, l15] [] h Q ↔ Rn r 208 4 [l0, l1, l2, l3, l4, l5, l6, l7, l8, l9, l10, l11, l12, l13, l14, l15] [vI 0] h Q := Rn_nx pg208 rfl rfl
theorem sJ21_putTreeVal_4 : Rn r 208 4 [l0, l1, l2, l3, l4, l5, l6, l7, l8, l9, l10, l11, l12, l13, l14, l15] [vI x0] h Q ↔ Rn r 208 6 [l0, l1, l2, l3, l4, l5, l6, some (vI x0), l8, l9, l10, l11, l12, l13, l14, l15] [] h Q := Rn_nx pg208 rfl rfl
theorem sJ21_putTreeVal_6 : Rn r 208 6 [some (vR z), l1, l2, l3, l4, l5, l6, l7, l8, l9, l10, l11, l12, l13, l14, l15] [] h Q ↔ Rn r 208 7 [some (vR z), l1, l2, l3, l4, l5, l6, l7, l8, l9, l10, l11, l12, l13, l14, l15] [vR z] h Q := Rn_nx pg208 rfl rfl
theorem sJ21_putTreeVal_7 (hk : hK h a0 = 13) : Rn r 208 7 [l0, l1, l2, l3, l4, l5, l6, l7, l8, l9, l10, l11, l12, l13, l14, l15] [vR (some a0)] h Q ↔ Rn r 208 10 [l0, l1, l2, l3, l4, l5, l6, l7, l8, l9, l10, l11, l12, l13, l14, l15] [vR (hR h a0 4)] h Q := Rn_nx pg208 rfl (if_pos ⟨(hk ▸ Nat.le_refl _), (hk ▸ Nat.le_refl _)⟩)
theorem sJ21_putTreeVal_10 : Rn r 208 10 [l0, l1, l2, l3, l4, l5, l6, l7, l8, l9, l10, l11, l12, l13, l14, l15] [vR z0] h Q ↔ if z0 = none then Rn r 208 20 [l0, l1, l2, l3, l4, l5, l6, l7, l8, l9, l10, l11, l12, l13, l14, l15] [] h Q else Rn r 208 13 [l0, l1, l2, l3, l4, l5, l6, l7, l8, l9, l10, l11, l12, l13, l14, l15] [] h Q := Rn_if pg208 rfl rfl rfl
theorem sJ21_putTreeVal_13 : Rn r 208 13 [some (vR z), l1, l2, l3, l4, l5, l6, l7, l8, l9, l10, l11, l12, l13, l14, l15] [] h Q ↔ Rn r 208 14 [some (vR z), l1, l2, l3, l4, l5, l6, l7, l8, l9, l10, l11, l12, l13, l14, l15] [vR z] h Q := Rn_nx pg208 rfl rfl
theorem sJ21_putTreeVal_14 (hk : hK h a0 = 13) : Rn r 208 14 [l0, l1, l2, l3, l4, l5, l6, l7, l8, l9, l10, l11, l12, l13, l14, l15] [vR (some a0)] h Q ↔ Cl r 192 [vR (some a0)] h (Kt r 208 17 [l0, l1, l2, l3, l4, l5, l6, l7, l8, l9, l10, l11, l12, l13, l14, l15] [] Q) := Rn_call pg208 rfl (by simp only [am_exec, am_inv, am_pop, am_lk, hk]; rfl) pg192 rfl rfl rfl
theorem sJ21_putTreeVal_17 : Rn r 208 17 [l0, l1, l2, l3, l4, l5, l6, l7, l8, l9, l10, l11, l12, l13, l14, l15] [vR z0] h Q ↔ Rn r 208 21 [l0, l1, l2, l3, l4, l5, l6, l7, l8, l9, l10, l11, l12, l13, l14, l15] [vR z0] h Q := Rn_nx pg208 rfl rfl
theorem sJ21_putTreeVal_20 : Rn r 208 20 [some (vR z), l1, l2, l3, l4, l5, l6, l7, l8, l9, l10, l11, l12, l13, l14, l15] [] h Q ↔ Rn r 208 21 [some (vR z), l1, l2, l3, l4, l5, l6, l7, l8, l9, l10, l11, l12, l13, l14, l15] [vR z] h Q := Rn_nx pg208 rfl rfl
theorem sJ21_putTreeVal_21 : Rn r 208 21 [l0, l1, l2, l3, l4, l5, l6, l7, l8, l9, l10, l11, l12, l13, l14, l15] [vR z0] h Q ↔ Rn r 208 23 [l0, l1, l2, l3, l4, l5, l6, l7, some (vR z0), l9, l10, l11, l12, l13, l14, l15] [] h Q := Rn_nx pg208 rfl rfl
theorem sJ21_putTreeVal_23 : Rn r 208 23 [l0, l1, l2, l3, l4, l5, l6, l7, some (vR z), l9, l10, l11, l12, l13, l14, l15] [] h Q ↔ Rn r 208 25 [l0, l1, l2, l3, l4, l5, l6, l7, some (vR z), l9, l10, l11, l12, l13, l14, l15] [vR z] h Q := Rn_nx pg208 rfl rfl
theorem sJ21_putTreeVal_25 : Rn r 208 25 [l0, l1, l2, l3, l4, l5, l6, l7, l8, l9, l10, l11, l12, l13, l14, l15] [vR z0] h Q ↔ Rn r 208 27 [l0, l1, l2, l3, l4, l5, l6, l7, l8, some (vR z0), l10, l11, l12, l13, l14, l15] [] h Q := Rn_nx pg208 rfl rfl
theorem sJ21_putTreeVal_27 : Rn r 208 27 [l0, l1, l2, l3, l4, l5, l6, l7, l8, some (vR z), l10, l11, l12, l13, l14, l15] [] h Q ↔ Rn r 208 29 [l0, l1, l2, l3, l4, l5, l6, l7, l8, some (vR z), l10, l11, l12, l13, l14, l15] [vR z] h Q := Rn_nx pg208 rfl rfl
theorem sJ21_putTreeVal_29 (hk : hK h a0 = 13) : Rn r 208 29 [l0, l1, l2, l3, l4, l5, l6, l7, l8, l9, l10, l11, l12, l13, l14, l15] [vR (some a0)] h Q ↔ Rn r 208 32 [l0, l1, l2, l3, l4, l5, l6, l7, l8, l9, l10, l11, l12, l13, l14, l15] [vI (hI h a0 0)] h Q := Rn_nx pg208 rfl (if_pos ⟨(hk ▸ Nat.le_refl _), (hk ▸ Nat.le_refl _)⟩)
theorem sJ21_putTreeVal_32 : Rn r 208 32 [l0, l1, l2, l3, l4, l5, l6, l7, l8, l9, l10, l11, l12, l13, l14, l15] [vI x0] h Q ↔ Rn r 208 33 [l0, l1, l2, l3, l4, l5, l6, l7, l8, l9, l10, l11, l12, l13, l14, l15] [vI x0, vI x0] h Q := Rn_nx pg208 rfl rfl
theorem sJ21_putTreeVal_33 : Rn r 208 33 [l0, l1, l2, l3, l4, l5, l6, l7, l8, l9, l10, l11, l12, l13, l14, l15] [vI x0, vI x1] h Q ↔ Rn r 208 35 [l0, l1, l2, l3, l4, l5, l6, l7, l8, l9, l10, some (vI x0), l12, l13, l14, l15] [vI x1] h Q := Rn_nx pg208 rfl rfl
theorem sJ21_putTreeVal_35 : Rn r 208 35 [l0, l1, l2, some (vI x), l4, l5, l6, l7, l8, l9, l10, l11, l12, l13, l14, l15] [vI x0] h Q ↔ Rn r 208 36 [l0, l1, l2, some (vI x), l4, l5, l6, l7, l8, l9, l10, l11, l12, l13, l14, l15] [vI x, vI x0] h Q := Rn_nx pg208 rfl rfl
theorem sJ21_putTreeVal_36 : Rn r 208 36 [l0, l1, l2, l3, l4, l5, l6, l7, l8, l9, l10, l11, l12, l13, l14, l15] [vI x0, vI x1] h Q ↔ if x1 ≤ x0 then Rn r 208 45 [l0, l1, l2, l3, l4, l5, l6, l7, l8, l9, l10, l11, l12, l13, l14, l15] [] h Q else Rn r 208 39 [l0, l1, l2, l3, l4, l5, l6, l7, l8, l9, l10, l11, l12, l13, l14, l15] [] h Q := Rn_if pg208 rfl rfl rfl
theorem sJ21_putTreeVal_39 : Rn r 208 39 [l0, l1, l2, l3, l4, l5, l6, l7, l8, l9, l10, l11, l12, l13, l14, l15] [] h Q ↔ Rn r 208 40 [l0, l1, l2, l3, l4, l5, l6, l7, l8, l9, l10, l11, l12, l13, l14, l15] [vI (-1)] h Q := Rn_nx pg208 rfl rfl
theorem sJ21_putTreeVal_40 : Rn r 208 40 [l0, l1, l2, l3, l4, l5, l6, l7, l8, l9, l10, l11, l12, l13, l14, l15] [vI x0] h Q ↔ Rn r 208 42 [l0, l1, l2, l3, l4, l5, l6, l7, l8, l9, some (vI x0), l11, l12, l13, l14, l15] [] h Q := Rn_nx pg208 rfl rfl
theorem sJ21_putTreeVal_42 : Rn r 208 42 [l0, l1, l2, l3, l4, l5, l6, l7, l8, l9, l10, l11, l12, l13, l14, l15] [] h Q ↔ Rn r 208 193 [l0, l1, l2, l3, l4, l5, l6, l7, l8, l9, l10, l11, l12, l13, l14, l15] [] h Q := Rn_nx pg208 rfl rfl
theorem sJ21_putTreeVal_45 : Rn r 208 45 [l0, l1, l2, l3, l4, l5, l6, l7, l8, l9, l10, some (vI x), l12, l13, l14, l15] [] h Q ↔ Rn r 208 47 [l0, l1, l2, l3, l4, l5, l6, l7, l8, l9, l10, some (vI x), l12, l13, l14, l15] [vI x] h Q := Rn_nx pg208 rfl rfl
theorem sJ21_putTreeVal_47 : Rn r 208 47 [l0, l1, l2, some (vI x), l4, l5, l6, l7, l8, l9, l10, l11, l12, l13, l14, l15] [vI x0] h Q ↔ Rn r 208 48 [l0, l1, l2, some (vI x), l4, l5, l6, l7, l8, l9, l10, l11, l12, l13, l14, l15] [vI x, vI x0] h Q := Rn_nx pg208 rfl rfl
theorem sJ21_putTreeVal_48 : Rn r 208 48 [l0, l1, l2, l3, l4, l5, l6, l7, l8, l9, l10, l11, l12, l13, l14, l15] [vI x0, vI x1] h Q ↔ if x0 ≤ x1 then Rn r 208 57 [l0, l1, l2, l3, l4, l5, l6, l7, l8, l9, l10, l11, l12, l13, l14, l15] [] h Q else Rn r 208 51 [l0, l1, l2, l3, l4, l5, l6, l7, l8, l9, l10, l11, l12, l13, l14, l15] [] h Q := Rn_if pg208 rfl rfl rfl
theorem sJ21_putTreeVal_51 : Rn r 208 51 [l0, l1, l2, l3, l4, l5, l6, l7, l8, l9, l10, l11, l12, l13, l14, l15] [] h Q ↔ Rn r 208 52 [l0, l1, l2, l3, l4, l5, l6, l7, l8, l9, l10, l11, l12, l13, l14, l15] [vI 1] h Q := Rn_nx pg208 rfl rfl
theorem sJ21_putTreeVal_52 : Rn r 208 52 [l0, l1, l2, l3, l4, l5, l6, l7, l8, l9, l10, l11, l12, l13, l14, l15] [vI x0] h Q ↔ Rn r 208 54 [l0, l1, l2, l3, l4, l5, l6, l7, l8, l9, some (vI x0), l11, l12, l13, l14, l15] [] h Q := Rn_nx pg208 rfl rfl
theorem sJ21_putTreeVal_54 : Rn r 208 54 [l0, l1, l2, l3, l4, l5, l6, l7, l8, l9, l10, l11, l12, l13, l14, l15] [] h Q ↔ Rn r 208 193 [l0, l1, l2, l3, l4, l5, l6, l7, l8, l9, l10, l11, l12, l13, l14, l15] [] h Q := Rn_nx pg208 rfl rfl
theorem sJ21_putTreeVal_57 : Rn r 208 57 [l0, l1, l2, l3, l4, l5, l6, l7, l8, some (vR z), l10, l11, l12, l13, l14, l15] [] h Q ↔ Rn r 208 59 [l0, l1, l2, l3, l4, l5, l6, l7, l8, some (vR z), l10, l11, l12, l13, l14, l15] [vR z] h Q := Rn_nx pg208 rfl rfl
theorem sJ21_putTreeVal_59 (hk : hK h a0 = 13) : Rn r 208 59 [l0, l1, l2, l3, l4, l5, l6, l7, l8, l9, l10, l11, l12, l13, l14, l15] [vR (some a0)] h Q ↔ Rn r 208 62 [l0, l1, l2, l3, l4, l5, l6, l7, l8, l9, l10, l11, l12, l13, l14, l15] [vR (hR h a0 1)] h Q := Rn_nx pg208 rfl (if_pos ⟨(hk ▸ Nat.le_refl _), (hk ▸ Nat.le_refl _)⟩)
theorem sJ21_putTreeVal_62 : Rn r 208 62 [l0, l1, l2, l3, l4, l5, l6, l7, l8, l9, l10, l11, l12, l13, l14, l15] [vR z0] h Q ↔ Rn r 208 63 [l0, l1, l2, l3, l4, l5, l6, l7, l8, l9, l10, l11, l12, l13, l14, l15] [vR z0, vR z0] h Q := Rn_nx pg208 rfl rfl
theorem sJ21_putTreeVal_63 : Rn r 208 63 [l0, l1, l2, l3, l4, l5, l6, l7, l8, l9, l10, l11, l12, l13, l14, l15] [vR z0, vR z1] h Q ↔ Rn r 208 65 [l0, l1, l2, l3, l4, l5, l6, l7, l8, l9, l10, l11, some (vR z0), l13, l14, l15] [vR z1] h Q := Rn_nx pg208 rfl rfl
theorem sJ21_putTreeVal_65 : Rn r 208 65 [l0, l1, l2, l3, some (vR z), l5, l6, l7, l8, l9, l10, l11, l12, l13, l14, l15] [vR z0] h Q ↔ Rn r 208 67 [l0, l1, l2, l3, some (vR z), l5, l6, l7, l8, l9, l10, l11, l12, l13, l14, l15] [vR z, vR z0] h Q := Rn_nx pg208 rfl rfl
theorem sJ21_putTreeVal_67 : Rn r 208 67 [l0, l1, l2, l3, l4, l5, l6, l7, l8, l9, l10, l11, l12, l13, l14, l15] [vR z0, vR z1] h Q ↔ if z1 = z0 then Rn r 208 85 [l0, l1, l2, l3, l4, l5, l6, l7, l8, l9, l10, l11, l12, l13, l14, l15] [] h Q else Rn r 208 70 [l0, l1, l2, l3, l4, l5, l6, l7, l8, l9, l10, l11, l12, l13, l14, l15] [] h Q := Rn_if pg208 rfl rfl rfl
theorem sJ21_putTreeVal_70 : Rn r 208 70 [l0, l1, l2, l3, some (vR z), l5, l6, l7, l8, l9, l10, l11, l12, l13, l14, l15] [] h Q ↔ Rn r 208 72 [l0, l1, l2, l3, some (vR z), l5, l6, l7, l8, l9, l10, l11, l12, l13, l14, l15] [vR z] h Q := Rn_nx pg208 rfl rfl
theorem sJ21_putTreeVal_72 : Rn r 208 72 [l0, l1, l2, l3, l4, l5, l6, l7, l8, l9, l10, l11, l12, l13, l14, l15] [vR z0] h Q ↔ if z0 = none then Rn r 208 88 [l0, l1, l2, l3, l4, l5, l6, l7, l8, l9, l10, l11, l12, l13, l14, l15] [] h Q else Rn r 208 75 [l0, l1, l2, l3, l4, l5, l6, l7, l8, l9, l10, l11, l12, l13, l14, l15] [] h Q := Rn_if pg208 rfl rfl rfl
theorem sJ21_putTreeVal_75 : Rn r 208 75 [l0, l1, l2, l3, some (vR z), l5, l6, l7, l8, l9, l10, l11, l12, l13, l14, l15] [] h Q ↔ Rn r 208 77 [l0, l1, l2, l3, some (vR z), l5, l6, l7, l8, l9, l10, l11, l12, l13, l14, l15] [vR z] h Q := Rn_nx pg208 rfl rfl
theorem sJ21_putTreeVal_77 : Rn r 208 77 [l0, l1, l2, l3, l4, l5, l6, l7, l8, l9, l10, l11, some (vR z), l13, l14, l15] [vR z0] h Q ↔ Rn r 208 79 [l0, l1, l2, l3, l4, l5, l6, l7, l8, l9, l10, l11, some (vR z), l13, l14, l15] [vR z, vR z0] h Q := Rn_nx pg208 rfl rfl
theorem sJ21_putTreeVal_79 (hk : 10 ≤ hK h a1) (hk2 : hK h a1 ≤ 11) : Rn r 208 79 [l0, l1, l2, l3, l4, l5, l6, l7, l8, l9, l10, l11, l12, l13, l14, l15] [vR z0, vR (some a1)] h Q ↔ Cl r 125 [vR (some a1), vR z0] h (Kt r 208 82 [l0, l1, l2, l3, l4, l5, l6, l7, l8, l9, l10, l11, l12, l13, l14, l15] [] Q) := Rn_call pg208 rfl (by rcases am_rng2 hk hk2 with q | q <;> simp only [am_exec, am_inv, am_pop, am_lk, q] <;> rfl) pg125 rfl rfl rfl
theorem sJ21_putTreeVal_82 : Rn r 208 82 [l0, l1, l2, l3, l4, l5, l6, l7, l8, l9, l10, l11, l12, l13, l14, l15] [vI x0] h Q ↔ if x0 = 0 then Rn r 208 88 [l0, l1, l2, l3, l4, l5, l6, l7, l8, l9, l10, l11, l12, l13, l14, l15] [] h Q else Rn r 208 85 [l0, l1, l2, l3, l4, l5, l6, l7, l8, l9, l10, l11, l12, l13, l14, l15] [] h Q := Rn_if pg208 rfl rfl rfl
theorem sJ21_putTreeVal_85 : Rn r 208 85 [l0, l1, l2, l3, l4, l5, l6, l7, l8, some (vR z), l10, l11, l12, l13, l14, l15] [] h Q ↔ Rn r 208 87 [l0, l1, l2, l3, l4, l5, l6, l7, l8, some (vR z), l10, l11, l12, l13, l14, l15] [vR z] h Q := Rn_nx pg208 rfl rfl
theorem sJ21_putTreeVal_87 : Rn r 208 87 [l0, l1, l2, l3, l4, l5, l6, l7, l8, l9, l10, l11, l12, l13, l14, l15] [vR z0] h Q ↔ Q (Sum.inl (some (vR z0))) h := Rn_end pg208 rfl rfl
theorem sJ21_putTreeVal_88 : Rn r 208 88 [l0, l1, l2, l3, l4, l5, some (vR z), l7, l8, l9, l10, l11, l12, l13, l14, l15] [] h Q ↔ Rn r 208 90 [l0, l1, l2, l3, l4, l5, some (vR z), l7, l8, l9, l10, l11, l12, l13, l14, l15] [vR z] h Q := Rn_nx pg208 rfl rfl
theorem sJ21_putTreeVal_90 : Rn r 208 90 [l0, l1, l2, l3, l4, l5, l6, l7, l8, l9, l10, l11, l12, l13, l14, l15] [vR z0] h Q ↔ if z0 ≠ none then Rn r 208 104 [l0, l1, l2, l3, l4, l5, l6, l7, l8, l9, l10, l11, l12, l13, l14, l15] [] h Q else Rn r 208 93 [l0, l1, l2, l3, l4, l5, l6, l7, l8, l9, l10, l11, l12, l13, l14, l15] [] h Q := Rn_if pg208 rfl rfl rfl
theorem sJ21_putTreeVal_93 : Rn r 208 93 [l0, l1, l2, l3, some (vR z), l5, l6, l7, l8, l9, l10, l11, l12, l13, l14, l15] [] h Q ↔ Rn r 208 95 [l0, l1, l2, l3, some (vR z), l5, l6, l7, l8, l9, l10, l11, l12, l13, l14, l15] [vR z] h Q := Rn_nx pg208 rfl rfl
theorem sJ21_putTreeVal_95 : Rn r 208 95 [l0, l1, l2, l3, l4, l5, l6, l7, l8, l9, l10, l11, l12, l13, l14, l15] [vR z0] h Q ↔ Cl r 250 [vR z0] h (Kt r 208 98 [l0, l1, l2, l3, l4, l5, l6, l7, l8, l9, l10, l11, l12, l13, l14, l15] [] Q) := Rn_call pg208 rfl rfl pg250 rfl rfl rfl
theorem sJ21_putTreeVal_98 : Rn r 208 98 [l0, l1, l2, l3, l4, l5, l6, l7, l8, l9, l10, l11, l12, l13, l14, l15] [vR z0] h Q ↔ Rn r 208 99 [l0, l1, l2, l3, l4, l5, l6, l7, l8, l9, l10, l11, l12, l13, l14, l15] [vR z0, vR z0] h Q := Rn_nx pg208 rfl rfl
theorem sJ21_putTreeVal_99 : Rn r 208 99 [l0, l1, l2, l3, l4, l5, l6, l7, l8, l9, l10, l11, l12, l13, l14, l15] [vR z0, vR z1] h Q ↔ Rn r 208 101 [l0, l1, l2, l3, l4, l5, some (vR z0), l7, l8, l9, l10, l11, l12, l13, l14, l15] [vR z1] h Q := Rn_nx pg208 rfl rfl
theorem sJ21_putTreeVal_101 : Rn r 208 101 [l0, l1, l2, l3, l4, l5, l6, l7, l8, l9, l10, l11, l12, l13, l14, l15] [vR z0] h Q ↔ if z0 = none then Rn r 208 119 [l0, l1, l2, l3, l4, l5, l6, l7, l8, l9, l10, l11, l12, l13, l14, l15] [] h Q else Rn r 208 104 [l0, l1, l2, l3, l4, l5, l6, l7, l8, l9, l10, l11, l12, l13, l14, l15] [] h Q := Rn_if pg208 rfl rfl rfl
theorem sJ21_putTreeVal_104 : Rn r 208 104 [l0, l1, l2, l3, l4, l5, some (vR z), l7, l8, l9, l10, l11, l12, l13, l14, l15] [] h Q ↔ Rn r 208 106 [l0, l1, l2, l3, l4, l5, some (vR z), l7, l8, l9, l10, l11, l12, l13, l14, l15] [vR z] h Q := Rn_nx pg208 rfl rfl
theorem sJ21_putTreeVal_106 : Rn r 208 106 [l0, l1, l2, l3, some (vR z), l5, l6, l7, l8, l9, l10, l11, l12, l13, l14, l15] [vR z0] h Q ↔ Rn r 208 108 [l0, l1, l2, l3, some (vR z), l5, l6, l7, l8, l9, l10, l11, l12, l13, l14, l15] [vR z, vR z0] h Q := Rn_nx pg208 rfl rfl
theorem sJ21_putTreeVal_108 : Rn r 208 108 [l0, l1, l2, l3, l4, l5, l6, l7, l8, l9, l10, l11, some (vR z), l13, l14, l15] [vR z0, vR z1] h Q ↔ Rn r 208 110 [l0, l1, l2, l3, l4, l5, l6, l7, l8, l9, l10, l11, some (vR z), l13, l14, l15] [vR z, vR z0, vR z1] h Q := Rn_nx pg208 rfl rfl
theorem sJ21_putTreeVal_110 : Rn r 208 110 [l0, l1, l2, l3, l4, l5, l6, l7, l8, l9, l10, l11, l12, l13, l14, l15] [vR z0, vR z1, vR z2] h Q ↔ Cl r 251 [vR z2, vR z1, vR z0] h (Kt r 208 113 [l0, l1, l2, l3, l4, l5, l6, l7, l8, l9, l10, l11, l12, l13, l14, l15] [] Q) := Rn_call pg208 rfl rfl pg251 rfl rfl rfl
theorem sJ21_putTreeVal_113 : Rn r 208 113 [l0, l1, l2, l3, l4, l5, l6, l7, l8, l9, l10, l11, l12, l13, l14, l15] [vI x0] h Q ↔ Rn r 208 114 [l0, l1, l2, l3, l4, l5, l6, l7, l8, l9, l10, l11, l12, l13, l14, l15] [vI x0, vI x0] h Q := Rn_nx pg208 rfl rfl
theorem sJ21_putTreeVal_114 : Rn r 208 114 [l0, l1, l2, l3, l4, l5, l6, l7, l8, l9, l10, l11, l12, l13, l14, l15] [vI x0, vI x1] h Q ↔ Rn r 208 116 [l0, l1, l2, l3, l4, l5, l6, l7, l8, l9, some (vI x0), l11, l12, l13, l14, l15] [vI x1] h Q := Rn_nx pg208 rfl rfl
theorem sJ21_putTreeVal_116 : Rn r 208 116 [l0, l1, l2, l3, l4, l5, l6, l7, l8, l9, l10, l11, l12, l13, l14, l15] [vI x0] h Q ↔ if x0 ≠ 0 then Rn r 208 193 [l0, l1, l2, l3, l4, l5, l6, l7, l8, l9, l10, l11, l12, l13, l14, l15] [] h Q else Rn r 208 119 [l0, l1, l2, l3, l4, l5, l6, l7, l8, l9, l10, l11, l12, l13, l14, l15] [] h Q := Rn_if pg208 rfl rfl rfl
theorem sJ21_putTreeVal_119 : Rn r 208 119 [l0, l1, l2, l3, l4, l5, l6, some (vI x), l8, l9, l10, l11, l12, l13, l14, l15] [] h Q ↔ Rn r 208 121 [l0, l1, l2, l3, l4, l5, l6, some (vI x), l8, l9, l10, l11, l12, l13, l14, l15] [vI x] h Q := Rn_nx pg208 rfl rfl
theorem sJ21_putTreeVal_121 : Rn r 208 121 [l0, l1, l2, l3, l4, l5, l6, l7, l8, l9, l10, l11, l12, l13, l14, l15] [vI x0] h Q ↔ if x0 ≠ 0 then Rn r 208 184 [l0, l1, l2, l3, l4, l5, l6, l7, l8, l9, l10, l11, l12, l13, l14, l15] [] h Q else Rn r 208 124 [l0, l1, l2, l3, l4, l5, l6, l7, l8, l9, l10, l11, l12, l13, l14, l15] [] h Q := Rn_if pg208 rfl rfl rfl
theorem sJ21_putTreeVal_124 : Rn r 208 124 [l0, l1, l2, l3, l4, l5, l6, l7, l8, l9, l10, l11, l12, l13, l14, l15] [] h Q ↔ Rn r 208 125 [l0, l1, l2, l3, l4, l5, l6, l7, l8, l9, l10, l11, l12, l13, l14, l15] [vI 1] h Q := Rn_nx pg208 rfl rfl
theorem sJ21_putTreeVal_125 : Rn r 208 125 [l0, l1, l2, l3, l4, l5, l6, l7, l8, l9, l10, l11, l12, l13, l14, l15] [vI x0] h Q ↔ Rn r 208 127 [l0, l1, l2, l3, l4, l5, l6, some (vI x0), l8, l9, l10, l11, l12, l13, l14, l15] [] h Q := Rn_nx pg208 rfl rfl
theorem sJ21_putTreeVal_127 : Rn r 208 127 [l0, l1, l2, l3, l4, l5, l6, l7, l8, some (vR z), l10, l11, l12, l13, l14, l15] [] h Q ↔ Rn r 208 129 [l0, l1, l2, l3, l4, l5, l6, l7, l8, some (vR z), l10, l11, l12, l13, l14, l15] [vR z] h Q := Rn_nx pg208 rfl rfl
theorem sJ21_putTreeVal_129 (hk : hK h a0 = 13) : Rn r 208 129 [l0, l1, l2, l3, l4, l5, l6, l7, l8, l9, l10, l11, l12, l13, l14, l15] [vR (some a0)] h Q ↔ Rn r 208 132 [l0, l1, l2, l3, l4, l5, l6, l7, l8, l9, l10, l11, l12, l13, l14, l15] [vR (hR h a0 5)] h Q := Rn_nx pg208 rfl (if_pos ⟨(hk ▸ Nat.le_refl _), (hk ▸ Nat.le_refl _)⟩)
theorem sJ21_putTreeVal_132 : Rn r 208 132 [l0, l1, l2, l3, l4, l5, l6, l7, l8, l9, l10, l11, l12, l13, l14, l15] [vR z0] h Q ↔ Rn r 208 133 [l0, l1, l2, l3, l4, l5, l6, l7, l8, l9, l10, l11, l12, l13, l14, l15] [vR z0, vR z0] h Q := Rn_nx pg208 rfl rfl
theorem sJ21_putTreeVal_133 : Rn r 208 133 [l0, l1, l2, l3, l4, l5, l6, l7, l8, l9, l10, l11, l12, l13, l14, l15] [vR z0, vR z1] h Q ↔ Rn r 208 135 [l0, l1, l2, l3, l4, l5, l6, l7, l8, l9, l10, l11, l12, l13, some (vR z0), l15] [vR z1] h Q := Rn_nx pg208 rfl rfl
theorem sJ21_putTreeVal_135 : Rn r 208 135 [l0, l1, l2, l3, l4, l5, l6, l7, l8, l9, l10, l11, l12, l13, l14, l15] [vR z0] h Q ↔ if z0 = none then Rn r 208 154 [l0, l1, l2, l3, l4, l5, l6, l7, l8, l9, l10, l11, l12, l13, l14, l15] [] h Q else Rn r 208 138 [l0, l1, l2, l3, l4, l5, l6, l7, l8, l9, l10, l11, l12, l13, l14, l15] [] h Q := Rn_if pg208 rfl rfl rfl
theorem sJ21_putTreeVal_138 : Rn r 208 138 [l0, l1, l2, l3, l4, l5, l6, l7, l8, l9, l10, l11, l12, l13, some (vR z), l15] [] h Q ↔ Rn r 208 140 [l0, l1, l2, l3, l4, l5, l6, l7, l8, l9, l10, l11, l12, l13, some (vR z), l15] [vR z] h Q := Rn_nx pg208 rfl rfl
theorem sJ21_putTreeVal_140 : Rn r 208 140 [l0, l1, l2, some (vI x), l4, l5, l6, l7, l8, l9, l10, l11, l12, l13, l14, l15] [vR z0] h Q ↔ Rn r 208 141 [l0, l1, l2, some (vI x), l4, l5, l6, l7, l8, l9, l10, l11, l12, l13, l14, l15] [vI x, vR z0] h Q := Rn_nx pg208 rfl rfl
theorem sJ21_putTreeVal_141 : Rn r 208 141 [l0, l1, l2, l3, some (vR z), l5, l6, l7, l8, l9, l10, l11, l12, l13, l14, l15] [vI x0, vR z1] h Q ↔ Rn r 208 143 [l0, l1, l2, l3, some (vR z), l5, l6, l7, l8, l9, l10, l11, l12, l13, l14, l15] [vR z, vI x0, vR z1] h Q := Rn_nx pg208 rfl rfl
theorem sJ21_putTreeVal_143 : Rn r 208 143 [l0, l1, l2, l3, l4, l5, some (vR z), l7, l8, l9, l10, l11, l12, l13, l14, l15] [vR z0, vI x1, vR z2] h Q ↔ Rn r 208 145 [l0, l1, l2, l3, l4, l5, some (vR z), l7, l8, l9, l10, l11, l12, l13, l14, l15] [vR z, vR z0, vI x1, vR z2] h Q := Rn_nx pg208 rfl rfl
theorem sJ21_putTreeVal_145 (hk : hK h a3 = 13) : Rn (r + 1) 208 145 [l0, l1, l2, l3, l4, l5, l6, l7, l8, l9, l10, l11, l12, l13, l14, l15] [vR z0, vR z1, vI x2, vR (some a3)] h Q ↔ Cl r 193 [vR (some a3), vI x2, vR z1, vR z0] h (Kt (r + 1) 208 148 [l0, l1, l2, l3, l4, l5, l6, l7, l8, l9, l10, l11, l12, l13, l14, l15] [] Q) := Rn_call pg208 rfl (by simp only [am_exec, am_inv, am_pop, am_lk, hk]; rfl) pg193 rfl rfl rfl
theorem sJ21_putTreeVal_148 : Rn r 208 148 [l0, l1, l2, l3, l4, l5, l6, l7, l8, l9, l10, l11, l12, l13, l14, l15] [vR z0] h Q ↔ Rn r 208 149 [l0, l1, l2, l3, l4, l5, l6, l7, l8, l9, l10, l11, l12, l13, l14, l15] [vR z0, vR z0] h Q := Rn_nx pg208 rfl rfl
theorem sJ21_putTreeVal_149 : Rn r 208 149 [l0, l1, l2, l3, l4, l5, l6, l7, l8, l9, l10, l11, l12, l13, l14, l15] [vR z0, vR z1] h Q ↔ Rn r 208 151 [l0, l1, l2, l3, l4, l5, l6, l7, l8, l9, l10, l11, l12, some (vR z0), l14, l15] [vR z1] h Q := Rn_nx pg208 rfl rfl
theorem sJ21_putTreeVal_151 : Rn r 208 151 [l0, l1, l2, l3, l4, l5, l6, l7, l8, l9, l10, l11, l12, l13, l14, l15] [vR z0] h Q ↔ if z0 ≠ none then Rn r 208 181 [l0, l1, l2, l3, l4, l5, l6, l7, l8, l9, l10, l11, l12, l13, l14, l15] [] h Q else Rn r 208 154 [l0, l1, l2, l3, l4, l5, l6, l7, l8, l9, l10, l11, l12, l13, l14, l15] [] h Q := Rn_if pg208 rfl rfl rfl
theorem sJ21_putTreeVal_154 : Rn r 208 154 [l0, l1, l2, l3, l4, l5, l6, l7, l8, some (vR z), l10, l11, l12, l13, l14, l15] [] h Q ↔ Rn r 208 156 [l0, l1, l2, l3, l4, l5, l6, l7, l8, some (vR z), l10, l11, l12, l13, l14, l15] [vR z] h Q := Rn_nx pg208 rfl rfl
theorem sJ21_putTreeVal_156 (hk : hK h a0 = 13) : Rn r 208 156 [l0, l1, l2, l3, l4, l5, l6, l7, l8, l9, l10, l11, l12, l13, l14, l15] [vR (some a0)] h Q ↔ Rn r 208 159 [l0, l1, l2, l3, l4, l5, l6, l7, l8, l9, l10, l11, l12, l13, l14, l15] [vR (hR h a0 6)] h Q := Rn_nx pg208 rfl (if_pos ⟨(hk ▸ Nat.le_refl _), (hk ▸ Nat.le_refl _)⟩)
theorem sJ21_putTreeVal_159 : Rn r 208 159 [l0, l1, l2, l3, l4, l5, l6, l7, l8, l9, l10, l11, l12, l13, l14, l15] [vR z0] h Q ↔ Rn r 208 160 [l0, l1, l2, l3, l4, l5, l6, l7, l8, l9, l10, l11, l12, l13, l14, l15] [vR z0, vR z0] h Q := Rn_nx pg208 rfl rfl
theorem sJ21_putTreeVal_160 : Rn r 208 160 [l0, l1, l2, l3, l4, l5, l6, l7, l8, l9, l10, l11, l12, l13, l14, l15] [vR z0, vR z1] h Q ↔ Rn r 208 162 [l0, l1, l2, l3, l4, l5, l6, l7, l8, l9, l10, l11, l12, l13, some (vR z0), l15] [vR z1] h Q := Rn_nx pg208 rfl rfl
theorem sJ21_putTreeVal_162 : Rn r 208 162 [l0, l1, l2, l3, l4, l5, l6, l7, l8, l9, l10, l11, l12, l13, l14, l15] [vR z0] h Q ↔ if z0 = none then Rn r 208 184 [l0, l1, l2, l3, l4, l5, l6, l7, l8, l9, l10, l11, l12, l13, l14, l15] [] h Q else Rn r 208 165 [l0, l1, l2, l3, l4, l5, l6, l7, l8, l9, l10, l11, l12, l13, l14, l15] [] h Q := Rn_if pg208 rfl rfl rfl
theorem sJ21_putTreeVal_165 : Rn r 208 165 [l0, l1, l2, l3, l4, l5, l6, l7, l8, l9, l10, l11, l12, l13, some (vR z), l15] [] h Q ↔ Rn r 208 167 [l0, l1, l2, l3, l4, l5, l6, l7, l8, l9, l10, l11, l12, l13, some (vR z), l15] [vR z] h Q := Rn_nx pg208 rfl rfl
theorem sJ21_putTreeVal_167 : Rn r 208 167 [l0, l1, l2, some (vI x), l4, l5, l6, l7, l8, l9, l10, l11, l12, l13, l14, l15] [vR z0] h Q ↔ Rn r 208 168 [l0, l1, l2, some (vI x), l4, l5, l6, l7, l8, l9, l10, l11, l12, l13, l14, l15] [vI x, vR z0] h Q := Rn_nx pg208 rfl rfl
theorem sJ21_putTreeVal_168 : Rn r 208 168 [l0, l1, l2, l3, some (vR z), l5, l6, l7, l8, l9, l10, l11, l12, l13, l14, l15] [vI x0, vR z1] h Q ↔ Rn r 208 170 [l0, l1, l2, l3, some (vR z), l5, l6, l7, l8, l9, l10, l11, l12, l13, l14, l15] [vR z, vI x0, vR z1] h Q := Rn_nx pg208 rfl rfl
theorem sJ21_putTreeVal_170 : Rn r 208 170 [l0, l1, l2, l3, l4, l5, some (vR z), l7, l8, l9, l10, l11, l12, l13, l14, l15] [vR z0, vI x1, vR z2] h Q ↔ Rn r 208 172 [l0, l1, l2, l3, l4, l5, some (vR z), l7, l8, l9, l10, l11, l12, l13, l14, l15] [vR z, vR z0, vI x1, vR z2] h Q := Rn_nx pg208 rfl rfl
theorem sJ21_putTreeVal_172 (hk : hK h a3 = 13) : Rn (r + 1) 208 172 [l0, l1, l2, l3, l4, l5, l6, l7, l8, l9, l10, l11, l12, l13, l14, l15] [vR z0, vR z1, vI x2, vR (some a3)] h Q ↔ Cl r 193 [vR (some a3), vI x2, vR z1, vR z0] h (Kt (r + 1) 208 175 [l0, l1, l2, l3, l4, l5, l6, l7, l8, l9, l10, l11, l12, l13, l14, l15] [] Q) := Rn_call pg208 rfl (by simp only [am_exec, am_inv, am_pop, am_lk, hk]; rfl) pg193 rfl rfl rfl
theorem sJ21_putTreeVal_175 : Rn r 208 175 [l0, l1, l2, l3, l4, l5, l6, l7, l8, l9, l10, l11, l12, l13, l14, l15] [vR z0] h Q ↔ Rn r 208 176 [l0, l1, l2, l3, l4, l5, l6, l7, l8, l9, l10, l11, l12, l13, l14, l15] [vR z0, vR z0] h Q := Rn_nx pg208 rfl rfl
theorem sJ21_putTreeVal_176 : Rn r 208 176 [l0, l1, l2, l3, l4, l5, l6, l7, l8, l9, l10, l11, l12, l13, l14, l15] [vR z0, vR z1] h Q ↔ Rn r 208 178 [l0, l1, l2, l3, l4, l5, l6, l7, l8, l9, l10, l11, l12, some (vR z0), l14, l15] [vR z1] h Q := Rn_nx pg208 rfl rfl
theorem sJ21_putTreeVal_178 : Rn r 208 178 [l0, l1, l2, l3, l4, l5, l6, l7, l8, l9, l10, l11, l12, l13, l14, l15] [vR z0] h Q ↔ if z0 = none then Rn r 208 184 [l0, l1, l2, l3, l4, l5, l6, l7, l8, l9, l10, l11, l12, l13, l14, l15] [] h Q else Rn r 208 181 [l0, l1, l2, l3, l4, l5, l6, l7, l8, l9, l10, l11, l12, l13, l14, l15] [] h Q := Rn_if pg208 rfl rfl rfl
theorem sJ21_putTreeVal_181 : Rn r 208 181 [l0, l1, l2, l3, l4, l5, l6, l7, l8, l9, l10, l11, l12, some (vR z), l14, l15] [] h Q ↔ Rn r 208 183 [l0, l1, l2, l3, l4, l5, l6, l7, l8, l9, l10, l11, l12, some (vR z), l14, l15] [vR z] h Q := Rn_nx pg208 rfl rfl
theorem sJ21_putTreeVal_183 : Rn r 208 183 [l0, l1, l2, l3, l4, l5, l6, l7, l8, l9, l10, l11, l12, l13, l14, l15] [vR z0] h Q ↔ Q (Sum.inl (some (vR z0))) h := Rn_end pg208 rfl rfl
theorem sJ21_putTreeVal_184 : Rn r 208 184 [l0, l1, l2, l3, some (vR z), l5, l6, l7, l8, l9, l10, l11, l12, l13, l14, l15] [] h Q ↔ Rn r 208 186 [l0, l1, l2, l3, some (vR z), l5, l6, l7, l8, l9, l10, l11, l12, l13, l14, l15] [vR z] h Q := Rn_nx pg208 rfl rfl
theorem sJ21_putTreeVal_186 : Rn r 208 186 [l0, l1, l2, l3, l4, l5, l6, l7, l8, l9, l10, l11, some (vR z), l13, l14, l15] [vR z0] h Q ↔ Rn r 208 188 [l0, l1, l2, l3, l4, l5, l6, l7, l8, l9, l10, l11, some (vR z), l13, l14, l15] [vR z, vR z0] h Q := Rn_nx pg208 rfl rfl
theorem sJ21_putTreeVal_193 : Rn r 208 193 [l0, l1, l2, l3, l4, l5, l6, l7, l8, some (vR z), l10, l11, l12, l13, l14, l15] [] h Q ↔ Rn r 208 195 [l0, l1, l2, l3, l4, l5, l6, l7, l8, some (vR z), l10, l11, l12, l13, l14, l15] [vR z] h Q := Rn_nx pg208 rfl rfl
theorem sJ21_putTreeVal_195 : Rn r 208 195 [l0, l1, l2, l3, l4, l5, l6, l7, l8, l9, l10, l11, l12, l13, l14, l15] [vR z0] h Q ↔ Rn r 208 197 [l0, l1, l2, l3, l4, l5, l6, l7, l8, l9, l10, l11, l12, some (vR z0), l14, l15] [] h Q := Rn_nx pg208 rfl rfl
theorem sJ21_putTreeVal_197 : Rn r 208 197 [l0, l1, l2, l3, l4, l5, l6, l7, l8, l9, some (vI x), l11, l12, l13, l14, l15] [] h Q ↔ Rn r 208 199 [l0, l1, l2, l3, l4, l5, l6, l7, l8, l9, some (vI x), l11, l12, l13, l14, l15] [vI x] h Q := Rn_nx pg208 rfl rfl
theorem sJ21_putTreeVal_199 : Rn r 208 199 [l0, l1, l2, l3, l4, l5, l6, l7, l8, l9, l10, l11, l12, l13, l14, l15] [vI x0] h Q ↔ if 0 < x0 then Rn r 208 210 [l0, l1, l2, l3, l4, l5, l6, l7, l8, l9, l10, l11, l12, l13, l14, l15] [] h Q else Rn r 208 202 [l0, l1, l2, l3, l4, l5, l6, l7, l8, l9, l10, l11, l12, l13, l14, l15] [] h Q := Rn_if pg208 rfl rfl rfl
theorem sJ21_putTreeVal_202 : Rn r 208 202 [l0, l1, l2, l3, l4, l5, l6, l7, l8, some (vR z), l10, l11, l12, l13, l14, l15] [] h Q ↔ Rn r 208 204 [l0, l1, l2, l3, l4, l5, l6, l7, l8, some (vR z), l10, l11, l12, l13, l14, l15] [vR z] h Q := Rn_nx pg208 rfl rfl
theorem sJ21_putTreeVal_204 (hk : hK h a0 = 13) : Rn r 208 204 [l0, l1, l2, l3, l4, l5, l6, l7, l8, l9, l10, l11, l12, l13, l14, l15] [vR (some a0)] h Q ↔ Rn r 208 207 [l0, l1, l2, l3, l4, l5, l6, l7, l8, l9, l10, l11, l12, l13, l14, l15] [vR (hR h a0 5)] h Q := Rn_nx pg208 rfl (if_pos ⟨(hk ▸ Nat.le_refl _), (hk ▸ Nat.le_refl _)⟩)
theorem sJ21_putTreeVal_207 : Rn r 208 207 [l0, l1, l2, l3, l4, l5, l6, l7, l8, l9, l10, l11, l12, l13, l14, l15] [vR z0] h Q ↔ Rn r 208 215 [l0, l1, l2, l3, l4, l5, l6, l7, l8, l9, l10, l11, l12, l13, l14, l15] [vR z0] h Q := Rn_nx pg208 rfl rfl
theorem sJ21_putTreeVal_210 : Rn r 208 210 [l0, l1, l2, l3, l4, l5, l6, l7, l8, some (vR z), l10, l11, l12, l13, l14, l15] [] h Q ↔ Rn r 208 212 [l0, l1, l2, l3, l4, l5, l6, l7, l8, some (vR z), l10, l11, l12, l13, l14, l15] [vR z] h Q := Rn_nx pg208 rfl rfl
theorem sJ21_putTreeVal_212 (hk : hK h a0 = 13) : Rn r 208 212 [l0, l1, l2, l3, l4, l5, l6, l7, l8, l9, l10, l11, l12, l13, l14, l15] [vR (some a0)] h Q ↔ Rn r 208 215 [l0, l1, l2, l3, l4, l5, l6, l7, l8, l9, l10, l11, l12, l13, l14, l15] [vR (hR h a0 6)] h Q := Rn_nx pg208 rfl (if_pos ⟨(hk ▸ Nat.le_refl _), (hk ▸ Nat.le_refl _)⟩)
theorem sJ21_putTreeVal_215 : Rn r 208 215 [l0, l1, l2, l3, l4, l5, l6, l7, l8, l9, l10, l11, l12, l13, l14, l15] [vR z0] h Q ↔ Rn r 208 216 [l0, l1, l2, l3, l4, l5, l6, l7, l8, l9, l10, l11, l12, l13, l14, l15] [vR z0, vR z0] h Q := Rn_nx pg208 rfl rfl
theorem sJ21_putTreeVal_216 : Rn r 208 216 [l0, l1, l2, l3, l4, l5, l6, l7, l8, l9, l10, l11, l12, l13, l14, l15] [vR z0, vR z1] h Q ↔ Rn r 208 218 [l0, l1, l2, l3, l4, l5, l6, l7, l8, some (vR z0), l10, l11, l12, l13, l14, l15] [vR z1] h Q := Rn_nx pg208 rfl rfl
theorem sJ21_putTreeVal_218 : Rn r 208 218 [l0, l1, l2, l3, l4, l5, l6, l7, l8, l9, l10, l11, l12, l13, l14, l15] [vR z0] h Q ↔ if z0 ≠ none then Rn r 208 311 [l0, l1, l2, l3, l4, l5, l6, l7, l8, l9, l10, l11, l12, l13, l14, l15] [] h Q else Rn r 208 221 [l0, l1, l2, l3, l4, l5, l6, l7, l8, l9, l10, l11, l12, l13, l14, l15] [] h Q := Rn_if pg208 rfl rfl rfl
theorem sJ21_putTreeVal_221 : Rn r 208 221 [l0, l1, l2, l3, l4, l5, l6, l7, l8, l9, l10, l11, l12, some (vR z), l14, l15] [] h Q ↔ Rn r 208 223 [l0, l1, l2, l3, l4, l5, l6, l7, l8, l9, l10, l11, l12, some (vR z), l14, l15] [vR z] h Q := Rn_nx pg208 rfl rfl
theorem sJ21_putTreeVal_223 (hk : hK h a0 = 13) : Rn r 208 223 [l0, l1, l2, l3, l4, l5, l6, l7, l8, l9, l10, l11, l12, l13, l14, l15] [vR (some a0)] h Q ↔ Rn r 208 226 [l0, l1, l2, l3, l4, l5, l6, l7, l8, l9, l10, l11, l12, l13, l14, l15] [vR (hR h a0 3)] h Q := Rn_nx pg208 rfl (if_pos ⟨(hk ▸ Nat.le_refl _), (hk ▸ Nat.le_refl _)⟩)
theorem sJ21_putTreeVal_226 : Rn r 208 226 [l0, l1, l2, l3, l4, l5, l6, l7, l8, l9, l10, l11, l12, l13, l14, l15] [vR z0] h Q ↔ Rn r 208 228 [l0, l1, l2, l3, l4, l5, l6, l7, l8, l9, l10, l11, l12, l13, some (vR z0), l15] [] h Q := Rn_nx pg208 rfl rfl
theorem sJ21_putTreeVal_228 : Rn r 208 228 [l0, some (vR z), l2, l3, l4, l5, l6, l7, l8, l9, l10, l11, l12, l13, l14, l15] [] h Q ↔ Rn r 208 229 [l0, some (vR z), l2, l3, l4, l5, l6, l7, l8, l9, l10, l11, l12, l13, l14, l15] [vR z] h Q := Rn_nx pg208 rfl rfl
theorem sJ21_putTreeVal_229 : Rn r 208 229 [l0, l1, l2, some (vI x), l4, l5, l6, l7, l8, l9, l10, l11, l12, l13, l14, l15] [vR z0] h Q ↔ Rn r 208 230 [l0, l1, l2, some (vI x), l4, l5, l6, l7, l8, l9, l10, l11, l12, l13, l14, l15] [vI x, vR z0] h Q := Rn_nx pg208 rfl rfl
theorem sJ21_putTreeVal_230 : Rn r 208 230 [l0, l1, l2, l3, some (vR z), l5, l6, l7, l8, l9, l10, l11, l12, l13, l14, l15] [vI x0, vR z1] h Q ↔ Rn r 208 232 [l0, l1, l2, l3, some (vR z), l5, l6, l7, l8, l9, l10, l11, l12, l13, l14, l15] [vR z, vI x0, vR z1] h Q := Rn_nx pg208 rfl rfl
theorem sJ21_putTreeVal_232 : Rn r 208 232 [l0, l1, l2, l3, l4, some (vR z), l6, l7, l8, l9, l10, l11, l12, l13, l14, l15] [vR z0, vI x1, vR z2] h Q ↔ Rn r 208 234 [l0, l1, l2, l3, l4, some (vR z), l6, l7, l8, l9, l10, l11, l12, l13, l14, l15] [vR z, vR z0, vI x1, vR z2] h Q := Rn_nx pg208 rfl rfl
theorem sJ21_putTreeVal_234 : Rn r 208 234 [l0, l1, l2, l3, l4, l5, l6, l7, l8, l9, l10, l11, l12, l13, some (vR z), l15] [vR z0, vR z1, vI x2, vR z3] h Q ↔ Rn r 208 236 [l0, l1, l2, l3, l4, l5, l6, l7, l8, l9, l10, l11, l12, l13, some (vR z), l15] [vR z, vR z0, vR z1, vI x2, vR z3] h Q := Rn_nx pg208 rfl rfl
theorem sJ21_putTreeVal_236 (hk : hK h a4 = 6) : Rn r 208 236 [l0, l1, l2, l3, l4, l5, l6, l7, l8, l9, l10, l11, l12, l13, l14, l15] [vR z0, vR z1, vR z2, vI x3, vR (some a4)] h Q ↔ Cl r 259 [vR (some a4), vI x3, vR z2, vR z1, vR z0] h (Kt r 208 239 [l0, l1, l2, l3, l4, l5, l6, l7, l8, l9, l10, l11, l12, l13, l14, l15] [] Q) := Rn_call pg208 rfl (by simp only [am_exec, am_inv, am_pop, am_lk, hk]; rfl) pg259 rfl rfl rfl
theorem sJ21_putTreeVal_239 : Rn r 208 239 [l0, l1, l2, l3, l4, l5, l6, l7, l8, l9, l10, l11, l12, l13, l14, l15] [vR z0] h Q ↔ Rn r 208 241 [l0, l1, l2, l3, l4, l5, l6, l7, l8, l9, l10, l11, l12, l13, l14, some (vR z0)] [] h Q := Rn_nx pg208 rfl rfl
theorem sJ21_putTreeVal_241 : Rn r 208 241 [l0, l1, l2, l3, l4, l5, l6, l7, l8, l9, some (vI x), l11, l12, l13, l14, l15] [] h Q ↔ Rn r 208 243 [l0, l1, l2, l3, l4, l5, l6, l7, l8, l9, some (vI x), l11, l12, l13, l14, l15] [vI x] h Q := Rn_nx pg208 rfl rfl
theorem sJ21_putTreeVal_243 : Rn r 208 243 [l0, l1, l2, l3, l4, l5, l6, l7, l8, l9, l10, l11, l12, l13, l14, l15] [vI x0] h Q ↔ if 0 < x0 then Rn r 208 256 [l0, l1, l2, l3, l4, l5, l6, l7, l8, l9, l10, l11, l12, l13, l14, l15] [] h Q else Rn r 208 246 [l0, l1, l2, l3, l4, l5, l6, l7, l8, l9, l10, l11, l12, l13, l14, l15] [] h Q := Rn_if pg208 rfl rfl rfl
theorem sJ21_putTreeVal_246 : Rn r 208 246 [l0, l1, l2, l3, l4, l5, l6, l7, l8, l9, l10, l11, l12, some (vR z), l14, l15] [] h Q ↔ Rn r 208 248 [l0, l1, l2, l3, l4, l5, l6, l7, l8, l9, l10, l11, l12, some (vR z), l14, l15] [vR z] h Q := Rn_nx pg208 rfl rfl
theorem sJ21_putTreeVal_248 : Rn r 208 248 [l0, l1, l2, l3, l4, l5, l6, l7, l8, l9, l10, l11, l12, l13, l14, some (vR z)] [vR z0] h Q ↔ Rn r 208 250 [l0, l1, l2, l3, l4, l5, l6, l7, l8, l9, l10, l11, l12, l13, l14, some (vR z)] [vR z, vR z0] h Q := Rn_nx pg208 rfl rfl
theorem sJ21_putTreeVal_250 (hk : hK h a1 = 13) : Rn r 208 250 [l0, l1, l2, l3, l4, l5, l6, l7, l8, l9, l10, l11, l12, l13, l14, l15] [vR z0, vR (some a1)] h Q ↔ Rn r 208 253 [l0, l1, l2, l3, l4, l5, l6, l7, l8, l9, l10, l11, l12, l13, l14, l15] [] (putR h a1 5 z0) Q := Rn_nx pg208 rfl ((if_pos ⟨(hk ▸ Nat.le_refl _), (hk ▸ Nat.le_refl _)⟩).trans rfl)
theorem sJ21_putTreeVal_253 : Rn r 208 253 [l0, l1, l2, l3, l4, l5, l6, l7, l8, l9, l10, l11, l12, l13, l14, l15] [] h Q ↔ Rn r 208 263 [l0, l1, l2, l3, l4, l5, l6, l7, l8, l9, l10, l11, l12, l13, l14, l15] [] h Q := Rn_nx pg208 rfl rfl
theorem sJ21_putTreeVal_256 : Rn r 208 256 [l0, l1, l2, l3, l4, l5, l6, l7, l8, l9, l10, l11, l12, some (vR z), l14, l15] [] h Q ↔ Rn r 208 258 [l0, l1, l2, l3, l4, l5, l6, l7, l8, l9, l10, l11, l12, some (vR z), l14, l15] [vR z] h Q := Rn_nx pg208 rfl rfl
theorem sJ21_putTreeVal_258 : Rn r 208 258 [l0, l1, l2, l3, l4, l5, l6, l7, l8, l9, l10, l11, l12, l13, l14, some (vR z)] [vR z0] h Q ↔ Rn r 208 260 [l0, l1, l2, l3, l4, l5, l6, l7, l8, l9, l10, l11, l12, l13, l14, some (vR z)] [vR z, vR z0] h Q := Rn_nx pg208 rfl rfl
theorem sJ21_putTreeVal_260 (hk : hK h a1 = 13) : Rn r 208 260 [l0, l1, l2, l3, l4, l5, l6, l7, l8, l9, l10, l11, l12, l13, l14, l15] [vR z0, vR (some a1)] h Q ↔ Rn r 208 263 [l0, l1, l2, l3, l4, l5, l6, l7, l8, l9, l10, l11, l12, l13, l14, l15] [] (putR h a1 6 z0) Q := Rn_nx pg208 rfl ((if_pos ⟨(hk ▸ Nat.le_refl _), (hk ▸ Nat.le_refl _)⟩).trans rfl)
theorem sJ21_putTreeVal_263 : Rn r 208 263 [l0, l1, l2, l3, l4, l5, l6, l7, l8, l9, l10, l11, l12, some (vR z), l14, l15] [] h Q ↔ Rn r 208 265 [l0, l1, l2, l3, l4, l5, l6, l7, l8, l9, l10, l11, l12, some (vR z), l14, l15] [vR z] h Q := Rn_nx pg208 rfl rfl
theorem sJ21_putTreeVal_265 : Rn r 208 265 [l0, l1, l2, l3, l4, l5, l6, l7, l8, l9, l10, l11, l12, l13, l14, some (vR z)] [vR z0] h Q ↔ Rn r 208 267 [l0, l1, l2, l3, l4, l5, l6, l7, l8, l9, l10, l11, l12, l13, l14, some (vR z)] [vR z, vR z0] h Q := Rn_nx pg208 rfl rfl
theorem sJ21_putTreeVal_267 (hk : hK h a1 = 13) : Rn r 208 267 [l0, l1, l2, l3, l4, l5, l6, l7, l8, l9, l10, l11, l12, l13, l14, l15] [vR z0, vR (some a1)] h Q ↔ Rn r 208 270 [l0, l1, l2, l3, l4, l5, l6, l7, l8, l9, l10, l11, l12, l13, l14, l15] [] (putR h a1 3 z0) Q := Rn_nx pg208 rfl ((if_pos ⟨(hk ▸ Nat.le_refl _), (hk ▸ Nat.le_refl _)⟩).trans rfl)
theorem sJ21_putTreeVal_270 : Rn r 208 270 [l0, l1, l2, l3, l4, l5, l6, l7, l8, l9, l10, l11, l12, l13, l14, some (vR z)] [] h Q ↔ Rn r 208 272 [l0, l1, l2, l3, l4, l5, l6, l7, l8, l9, l10, l11, l12, l13, l14, some (vR z)] [vR z] h Q := Rn_nx pg208 rfl rfl
theorem sJ21_putTreeVal_272 : Rn r 208 272 [l0, l1, l2, l3, l4, l5, l6, l7, l8, l9, l10, l11, l12, l13, l14, some (vR z)] [vR z0] h Q ↔ Rn r 208 274 [l0, l1, l2, l3, l4, l5, l6, l7, l8, l9, l10, l11, l12, l13, l14, some (vR z)] [vR z, vR z0] h Q := Rn_nx pg208 rfl rfl
theorem sJ21_putTreeVal_274 : Rn r 208 274 [l0, l1, l2, l3, l4, l5, l6, l7, l8, l9, l10, l11, l12, some (vR z), l14, l15] [vR z0, vR z1] h Q ↔ Rn r 208 276 [l0, l1, l2, l3, l4, l5, l6, l7, l8, l9, l10, l11, l12, some (vR z), l14, l15] [vR z, vR z0, vR z1] h Q := Rn_nx pg208 rfl rfl
theorem sJ21_putTreeVal_276 : Rn r 208 276 [l0, l1, l2, l3, l4, l5, l6, l7, l8, l9, l10, l11, l12, l13, l14, l15] [vR z0, vR z1, vR z2] h Q ↔ Rn r 208 277 [l0, l1, l2, l3, l4, l5, l6, l7, l8, l9, l10, l11, l12, l13, l14, l15] [vR z0, vR z1, vR z0, vR z2] h Q := Rn_nx pg208 rfl rfl
theorem sJ21_putTreeVal_277 (hk : hK h a1 = 13) : Rn r 208 277 [l0, l1, l2, l3, l4, l5, l6, l7, l8, l9, l10, l11, l12, l13, l14, l15] [vR z0, vR (some a1), vR z2, vR z3] h Q ↔ Rn r 208 280 [l0, l1, l2, l3, l4, l5, l6, l7, l8, l9, l10, l11, l12, l13, l14, l15] [vR z2, vR z3] (putR h a1 7 z0) Q := Rn_nx pg208 rfl ((if_pos ⟨(hk ▸ Nat.le_refl _), (hk ▸ Nat.le_refl _)⟩).trans rfl)
theorem sJ21_putTreeVal_280 (hk : hK h a1 = 13) : Rn r 208 280 [l0, l1, l2, l3, l4, l5, l6, l7, l8, l9, l10, l11, l12, l13, l14, l15] [vR z0, vR (some a1)] h Q ↔ Rn r 208 283 [l0, l1, l2, l3, l4, l5, l6, l7, l8, l9, l10, l11, l12, l13, l14, l15] [] (putR h a1 4 z0) Q := Rn_nx pg208 rfl ((if_pos ⟨(hk ▸ Nat.le_refl _), (hk ▸ Nat.le_refl _)⟩).trans rfl)
theorem sJ21_putTreeVal_283 : Rn r 208 283 [l0, l1, l2, l3, l4, l5, l6, l7, l8, l9, l10, l11, l12, l13, some (vR z), l15] [] h Q ↔ Rn r 208 285 [l0, l1, l2, l3, l4, l5, l6, l7, l8, l9, l10, l11, l12, l13, some (vR z), l15] [vR z] h Q := Rn_nx pg208 rfl rfl
theorem sJ21_putTreeVal_285 : Rn r 208 285 [l0, l1, l2, l3, l4, l5, l6, l7, l8, l9, l10, l11, l12, l13, l14, l15] [vR z0] h Q ↔ if z0 = none then Rn r 208 298 [l0, l1, l2, l3, l4, l5, l6, l7, l8, l9, l10, l11, l12, l13, l14, l15] [] h Q else Rn r 208 288 [l0, l1, l2, l3, l4, l5, l6, l7, l8, l9, l10, l11, l12, l13, l14, l15] [] h Q := Rn_if pg208 rfl rfl rfl
theorem sJ21_putTreeVal_288 : Rn r 208 288 [l0, l1, l2, l3, l4, l5, l6, l7, l8, l9, l10, l11, l12, l13, some (vR z), l15] [] h Q ↔ Rn r 208 290 [l0, l1, l2, l3, l4, l5, l6, l7, l8, l9, l10, l11, l12, l13, some (vR z), l15] [vR z] h Q := Rn_nx pg208 rfl rfl
theorem sJ21_putTreeVal_290_n : Rn r 208 290 [l0, l1, l2, l3, l4, l5, l6, l7, l8, l9, l10, l11, l12, l13, l14, l15] [vR none] h Q ↔ Rn r 208 293 [l0, l1, l2, l3, l4, l5, l6, l7, l8, l9, l10, l11, l12, l13, l14, l15] [vR none] h Q := Rn_nx pg208 rfl rfl
theorem sJ21_putTreeVal_290 (hk : hK h a0 ∈ [13]) : Rn r 208 290 [l0, l1, l2, l3, l4, l5, l6, l7, l8, l9, l10, l11, l12, l13, l14, l15] [vR (some a0)] h Q ↔ Rn r 208 293 [l0, l1, l2, l3, l4, l5, l6, l7, l8, l9, l10, l11, l12, l13, l14, l15] [vR (some a0)] h Q := Rn_nx pg208 rfl (if_pos hk)
theorem sJ21_putTreeVal_293 : Rn r 208 293 [l0, l1, l2, l3, l4, l5, l6, l7, l8, l9, l10, l11, l12, l13, l14, some (vR z)] [vR z0] h Q ↔ Rn r 208 295 [l0, l1, l2, l3, l4, l5, l6, l7, l8, l9, l10, l11, l12, l13, l14, some (vR z)] [vR z, vR z0] h Q := Rn_nx pg208 rfl rfl
theorem sJ21_putTreeVal_295 (hk : hK h a1 = 13) : Rn r 208 295 [l0, l1, l2, l3, l4, l5, l6, l7, l8, l9, l10, l11, l12, l13, l14, l15] [vR z0, vR (some a1)] h Q ↔ Rn r 208 298 [l0, l1, l2, l3, l4, l5, l6, l7, l8, l9, l10, l11, l12, l13, l14, l15] [] (putR h a1 7 z0) Q := Rn_nx pg208 rfl ((if_pos ⟨(hk ▸ Nat.le_refl _), (hk ▸ Nat.le_refl _)⟩).trans rfl)
theorem sJ21_putTreeVal_298 : Rn r 208 298 [l0, l1, some (vR z), l3, l4, l5, l6, l7, l8, l9, l10, l11, l12, l13, l14, l15] [] h Q ↔ Rn r 208 299 [l0, l1, some (vR z), l3, l4, l5, l6, l7, l8, l9, l10, l11, l12, l13, l14, l15] [vR z] h Q := Rn_nx pg208 rfl rfl
theorem sJ21_putTreeVal_299 : Rn r 208 299 [l0, l1, l2, l3, l4, l5, l6, l7, some (vR z), l9, l10, l11, l12, l13, l14, l15] [vR z0] h Q ↔ Rn r 208 301 [l0, l1, l2, l3, l4, l5, l6, l7, some (vR z), l9, l10, l11, l12, l13, l14, l15] [vR z, vR z0] h Q := Rn_nx pg208 rfl rfl
theorem sJ21_putTreeVal_301 : Rn r 208 301 [l0, l1, l2, l3, l4, l5, l6, l7, l8, l9, l10, l11, l12, l13, l14, some (vR z)] [vR z0, vR z1] h Q ↔ Rn r 208 303 [l0, l1, l2, l3, l4, l5, l6, l7, l8, l9, l10, l11, l12, l13, l14, some (vR z)] [vR z, vR z0, vR z1] h Q := Rn_nx pg208 rfl rfl
theorem sJ21_putTreeVal_303 : Rn r 208 303 [l0, l1, l2, l3, l4, l5, l6, l7, l8, l9, l10, l11, l12, l13, l14, l15] [vR z0, vR z1, vR z2] h Q ↔ Cl r 260 [vR z1, vR z0] h (Kt r 208 306 [l0, l1, l2, l3, l4, l5, l6, l7, l8, l9, l10, l11, l12, l13, l14, l15] [vR z2] Q) := Rn_call pg208 rfl rfl pg260 rfl rfl rfl
theorem sJ21_putTreeVal_306 : Rn r 208 306 [l0, l1, l2, l3, l4, l5, l6, l7, l8, l9, l10, l11, l12, l13, l14, l15] [vR z0, vR z1] h Q ↔ Cl r 261 [vR z1, vR z0] h (Kt r 208 309 [l0, l1, l2, l3, l4, l5, l6, l7, l8, l9, l10, l11, l12, l13, l14, l15] [] Q) := Rn_call pg208 rfl rfl pg261 rfl rfl rfl
theorem sJ21_putTreeVal_309 : Rn r 208 309 [l0, l1, l2, l3, l4, l5, l6, l7, l8, l9, l10, l11, l12, l13, l14, l15] [] h Q ↔ Rn r 208 310 [l0, l1, l2, l3, l4, l5, l6, l7, l8, l9, l10, l11, l12, l13, l14, l15] [vR none] h Q := Rn_nx pg208 rfl rfl
theorem sJ21_putTreeVal_310 : Rn r 208 310 [l0, l1, l2, l3, l4, l5, l6, l7, l8, l9, l10, l11, l12, l13, l14, l15] [vR z0] h Q ↔ Q (Sum.inl (some (vR z0))) h := Rn_end pg208 rfl rfl
theorem sJ21_putTreeVal_311 : Rn r 208 311 [l0, l1, l2, l3, l4, l5, l6, l7, l8, l9, l10, l11, l12, l13, l14, l15] [] h Q ↔ Rn r 208 27 [l0, l1, l2, l3, l4, l5, l6, l7, l8, l9, l10, l11, l12, l13, l14, l15] [] h Q := Rn_nx pg208 rfl rfl
/-! 209 java/util/HashMap.treeifyBin([Ljava/util/HashMap$Node;I)V -/
theorem eJ7_treeifyBin : Cl r 209 [vR z0, vR z1, vI x2] h Q ↔ Rn r 209 0 [some (vR z0), some (vR z1), some (vI x2), none, none, none, none, none, none] [] h Q := Cl_in pg209 rfl
theorem sJ7_treeifyBin_0 : Rn r 209 0 [l0, some (vR z), l2, l3, l4, l5, l6, l7, l8] [] h Q ↔ Rn r 209 1 [l0, some (vR z), l2, l3, l4, l5, l6, l7, l8] [vR z] h Q := Rn_nx pg209 rfl rfl
theorem sJ7_treeifyBin_1 : Rn r 209 1 [l0, l1, l2, l3, l4, l5, l6, l7, l8] [vR z0] h Q ↔ if z0 = none then Rn r 209 13 [l0, l1, l2, l3, l4, l5, l6, l7, l8] [] h Q else Rn r 209 4 [l0, l1, l2, l3, l4, l5, l6, l7, l8] [] h Q := Rn_if pg209 rfl rfl rfl
theorem sJ7_treeifyBin_4 : Rn r 209 4 [l0, some (vR z), l2, l3, l4, l5, l6, l7, l8] [] h Q ↔ Rn r 209 5 [l0, some (vR z), l2, l3, l4, l5, l6, l7, l8] [vR z] h Q := Rn_nx pg209 rfl rfl
theorem sJ7_treeifyBin_5 (hk : 40 ≤ hK h a0) (hk2 : hK h a0 ≤ 49) : Rn r 209 5 [l0, l1, l2, l3, l4, l5, l6, l7, l8] [vR (some a0)] h Q ↔ Rn r 209 6 [l0, l1, l2, l3, l4, l5, l6, l7, l8] [vI (nI (hL h a0))] h Q := Rn_nx pg209 rfl (if_pos ⟨hk, hk2⟩)
theorem sJ7_treeifyBin_6 : Rn r 209 6 [l0, l1, l2, l3, l4, l5, l6, l7, l8] [vI x0] h Q ↔ Rn r 209 7 [l0, l1, l2, l3, l4, l5, l6, l7, l8] [vI x0, vI x0] h Q := Rn_nx pg209 rfl rfl
theorem sJ7_treeifyBin_7 : Rn r 209 7 [l0, l1, l2, l3, l4, l5, l6, l7, l8] [vI x0, vI x1] h Q ↔ Rn r 209 8 [l0, l1, l2, some (vI x0), l4, l5, l6, l7, l8] [vI x1] h Q := Rn_nx pg209 rfl rfl
theorem sJ7_treeifyBin_8 : Rn r 209 8 [l0, l1, l2, l3, l4, l5, l6, l7, l8] [vI x0] h Q ↔ Rn r 209 10 [l0, l1, l2, l3, l4, l5, l6, l7, l8] [vI 64, vI x0] h Q := Rn_nx pg209 rfl rfl
theorem sJ7_treeifyBin_10 : Rn r 209 10 [l0, l1, l2, l3, l4, l5, l6, l7, l8] [vI x0, vI x1] h Q ↔ if x0 ≤ x1 then Rn r 209 21 [l0, l1, l2, l3, l4, l5, l6, l7, l8] [] h Q else Rn r 209 13 [l0, l1, l2, l3, l4, l5, l6, l7, l8] [] h Q := Rn_if pg209 rfl rfl rfl
theorem sJ7_treeifyBin_13 : Rn r 209 13 [some (vR z), l1, l2, l3, l4, l5, l6, l7, l8] [] h Q ↔ Rn r 209 14 [some (vR z), l1, l2, l3, l4, l5, l6, l7, l8] [vR z] h Q := Rn_nx pg209 rfl rfl
theorem sJ7_treeifyBin_14 (hk : hK h a0 = 6) : Rn r 209 14 [l0, l1, l2, l3, l4, l5, l6, l7, l8] [vR (some a0)] h Q ↔ Cl r 206 [vR (some a0)] h (Kt r 209 17 [l0, l1, l2, l3, l4, l5, l6, l7, l8] [] Q) := Rn_call pg209 rfl (by simp only [am_exec, am_inv, am_pop, am_lk, hk]; rfl) pg206 rfl rfl rfl
theorem sJ7_treeifyBin_17 : Rn r 209 17 [l0, l1, l2, l3, l4, l5, l6, l7, l8] [vR z0] h Q ↔ Rn r 209 18 [l0, l1, l2, l3, l4, l5, l6, l7, l8] [] h Q := Rn_nx pg209 rfl rfl
theorem sJ7_treeifyBin_18 : Rn r 209 18 [l0, l1, l2, l3, l4, l5, l6, l7, l8] [] h Q ↔ Rn r 209 109 [l0, l1, l2, l3, l4, l5, l6, l7, l8] [] h Q := Rn_nx pg209 rfl rfl
theorem sJ7_treeifyBin_21 : Rn r 209 21 [l0, some (vR z), l2, l3, l4, l5, l6, l7, l8] [] h Q ↔ Rn r 209 22 [l0, some (vR z), l2, l3, l4, l5, l6, l7, l8] [vR z] h Q := Rn_nx pg209 rfl rfl
theorem sJ7_treeifyBin_22 : Rn r 209 22 [l0, l1, l2, some (vI x), l4, l5, l6, l7, l8] [vR z0] h Q ↔ Rn r 209 23 [l0, l1, l2, some (vI x), l4, l5, l6, l7, l8] [vI x, vR z0] h Q := Rn_nx pg209 rfl rfl
theorem sJ7_treeifyBin_23 : Rn r 209 23 [l0, l1, l2, l3, l4, l5, l6, l7, l8] [vI x0, vR z1] h Q ↔ Rn r 209 24 [l0, l1, l2, l3, l4, l5, l6, l7, l8] [vI 1, vI x0, vR z1] h Q := Rn_nx pg209 rfl rfl
theorem sJ7_treeifyBin_24 : Rn r 209 24 [l0, l1, l2, l3, l4, l5, l6, l7, l8] [vI x0, vI x1, vR z2] h Q ↔ Rn r 209 25 [l0, l1, l2, l3, l4, l5, l6, l7, l8] [vI (x1 - x0), vR z2] h Q := Rn_nx pg209 rfl rfl
theorem sJ7_treeifyBin_25 : Rn r 209 25 [l0, l1, some (vI x), l3, l4, l5, l6, l7, l8] [vI x0, vR z1] h Q ↔ Rn r 209 26 [l0, l1, some (vI x), l3, l4, l5, l6, l7, l8] [vI x, vI x0, vR z1] h Q := Rn_nx pg209 rfl rfl
theorem sJ7_treeifyBin_26 : Rn r 209 26 [l0, l1, l2, l3, l4, l5, l6, l7, l8] [vI x0, vI x1, vR z2] h Q ↔ Rn r 209 27 [l0, l1, l2, l3, l4, l5, l6, l7, l8] [vI (x1 &&& x0), vR z2] h Q := Rn_nx pg209 rfl rfl
theorem sJ7_treeifyBin_27 : Rn r 209 27 [l0, l1, l2, l3, l4, l5, l6, l7, l8] [vI x0, vR z1] h Q ↔ Rn r 209 28 [l0, l1, l2, l3, l4, l5, l6, l7, l8] [vI x0, vI x0, vR z1] h Q := Rn_nx pg209 rfl rfl
theorem sJ7_treeifyBin_28 : Rn r 209 28 [l0, l1, l2, l3, l4, l5, l6, l7, l8] [vI x0, vI x1, vR z2] h Q ↔ Rn r 209 30 [l0, l1, l2, l3, some (vI x0), l5, l6, l7, l8] [vI x1, vR z2] h Q := Rn_nx pg209 rfl rfl
theorem sJ7_treeifyBin_30 (hk : 46 ≤ hK h a1) (hk2 : hK h a1 ≤ 49) (hx : ¬ (x0 < 0 ∨ hL h a1 ≤ x0.toNatClampNeg)) : Rn r 209 30 [l0, l1, l2, l3, l4, l5, l6, l7, l8] [vI x0, vR (some a1)] h Q ↔ Rn r 209 31 [l0, l1, l2, l3, l4, l5, l6, l7, l8] [vR (hR h a1 x0.toNatClampNeg)] h Q := Rn_nx pg209 rfl ((if_pos ⟨hk, hk2⟩).trans (if_neg hx))
theorem sJ7_treeifyBin_31 : Rn r 209 31 [l0, l1, l2, l3, l4, l5, l6, l7, l8] [vR z0] h Q ↔ Rn r 209 32 [l0, l1, l2, l3, l4, l5, l6, l7, l8] [vR z0, vR z0] h Q := Rn_nx pg209 rfl rfl
theorem sJ7_treeifyBin_32 : Rn r 209 32 [l0, l1, l2, l3, l4, l5, l6, l7, l8] [vR z0, vR z1] h Q ↔ Rn r 209 34 [l0, l1, l2, l3, l4, some (vR z0), l6, l7, l8] [vR z1] h Q := Rn_nx pg209 rfl rfl
theorem sJ7_treeifyBin_34 : Rn r 209 34 [l0, l1, l2, l3, l4, l5, l6, l7, l8] [vR z0] h Q ↔ if z0 = none then Rn r 209 109 [l0, l1, l2, l3, l4, l5, l6, l7, l8] [] h Q else Rn r 209 37 [l0, l1, l2, l3, l4, l5, l6, l7, l8] [] h Q := Rn_if pg209 rfl rfl rfl
theorem sJ7_treeifyBin_37 : Rn r 209 37 [l0, l1, l2, l3, l4, l5, l6, l7, l8] [] h Q ↔ Rn r 209 38 [l0, l1, l2, l3, l4, l5, l6, l7, l8] [vR none] h Q := Rn_nx pg209 rfl rfl
theorem sJ7_treeifyBin_38 : Rn r 209 38 [l0, l1, l2, l3, l4, l5, l6, l7, l8] [vR z0] h Q ↔ Rn r 209 40 [l0, l1, l2, l3, l4, l5, some (vR z0), l7, l8] [] h Q := Rn_nx pg209 rfl rfl
theorem sJ7_treeifyBin_40 : Rn r 209 40 [l0, l1, l2, l3, l4, l5, l6, l7, l8] [] h Q ↔ Rn r 209 41 [l0, l1, l2, l3, l4, l5, l6, l7, l8] [vR none] h Q := Rn_nx pg209 rfl rfl
theorem sJ7_treeifyBin_41 : Rn r 209 41 [l0, l1, l2, l3, l4, l5, l6, l7, l8] [vR z0] h Q ↔ Rn r 209 43 [l0, l1, l2, l3, l4, l5, l6, some (vR z0), l8] [] h Q := Rn_nx pg209 rfl rfl
theorem sJ7_treeifyBin_43 : Rn r 209 43 [some (vR z), l1, l2, l3, l4, l5, l6, l7, l8] [] h Q ↔ Rn r 209 44 [some (vR z), l1, l2, l3, l4, l5, l6, l7, l8] [vR z] h Q := Rn_nx pg209 rfl rfl
theorem sJ7_treeifyBin_44 : Rn r 209 44 [l0, l1, l2, l3, l4, some (vR z), l6, l7, l8] [vR z0] h Q ↔ Rn r 209 46 [l0, l1, l2, l3, l4, some (vR z), l6, l7, l8] [vR z, vR z0] h Q := Rn_nx pg209 rfl rfl
theorem sJ7_treeifyBin_46 : Rn r 209 46 [l0, l1, l2, l3, l4, l5, l6, l7, l8] [vR z0, vR z1] h Q ↔ Rn r 209 47 [l0, l1, l2, l3, l4, l5, l6, l7, l8] [vR none, vR z0, vR z1] h Q := Rn_nx pg209 rfl rfl
theorem sJ7_treeifyBin_47 (hk : hK h a2 = 6) : Rn r 209 47 [l0, l1, l2, l3, l4, l5, l6, l7, l8] [vR z0, vR z1, vR (some a2)] h Q ↔ Cl r 262 [vR (some a2), vR z1, vR z0] h (Kt r 209 50 [l0, l1, l2, l3, l4, l5, l6, l7, l8] [] Q) := Rn_call pg209 rfl (by simp only [am_exec, am_inv, am_pop, am_lk, hk]; rfl) pg262 rfl rfl rfl
theorem sJ7_treeifyBin_50 : Rn r 209 50 [l0, l1, l2, l3, l4, l5, l6, l7, l8] [vR z0] h Q ↔ Rn r 209 52 [l0, l1, l2, l3, l4, l5, l6, l7, some (vR z0)] [] h Q := Rn_nx pg209 rfl rfl
theorem sJ7_treeifyBin_52 : Rn r 209 52 [l0, l1, l2, l3, l4, l5, l6, some (vR z), l8] [] h Q ↔ Rn r 209 54 [l0, l1, l2, l3, l4, l5, l6, some (vR z), l8] [vR z] h Q := Rn_nx pg209 rfl rfl
theorem sJ7_treeifyBin_54 : Rn r 209 54 [l0, l1, l2, l3, l4, l5, l6, l7, l8] [vR z0] h Q ↔ if z0 ≠ none then Rn r 209 64 [l0, l1, l2, l3, l4, l5, l6, l7, l8] [] h Q else Rn r 209 57 [l0, l1, l2, l3, l4, l5, l6, l7, l8] [] h Q := Rn_if pg209 rfl rfl rfl
theorem sJ7_treeifyBin_57 : Rn r 209 57 [l0, l1, l2, l3, l4, l5, l6, l7, some (vR z)] [] h Q ↔ Rn r 209 59 [l0, l1, l2, l3, l4, l5, l6, l7, some (vR z)] [vR z] h Q := Rn_nx pg209 rfl rfl
theorem sJ7_treeifyBin_59 : Rn r 209 59 [l0, l1, l2, l3, l4, l5, l6, l7, l8] [vR z0] h Q ↔ Rn r 209 61 [l0, l1, l2, l3, l4, l5, some (vR z0), l7, l8] [] h Q := Rn_nx pg209 rfl rfl
theorem sJ7_treeifyBin_61 : Rn r 209 61 [l0, l1, l2, l3, l4, l5, l6, l7, l8] [] h Q ↔ Rn r 209 78 [l0, l1, l2, l3, l4, l5, l6, l7, l8] [] h Q := Rn_nx pg209 rfl rfl
theorem sJ7_treeifyBin_64 : Rn r 209 64 [l0, l1, l2, l3, l4, l5, l6, l7, some (vR z)] [] h Q ↔ Rn r 209 66 [l0, l1, l2, l3, l4, l5, l6, l7, some (vR z)] [vR z] h Q := Rn_nx pg209 rfl rfl
theorem sJ7_treeifyBin_66 : Rn r 209 66 [l0, l1, l2, l3, l4, l5, l6, some (vR z), l8] [vR z0] h Q ↔ Rn r 209 68 [l0, l1, l2, l3, l4, l5, l6, some (vR z), l8] [vR z, vR z0] h Q := Rn_nx pg209 rfl rfl
theorem sJ7_treeifyBin_68 (hk : hK h a1 = 13) : Rn r 209 68 [l0, l1, l2, l3, l4, l5, l6, l7, l8] [vR z0, vR (some a1)] h Q ↔ Rn r 209 71 [l0, l1, l2, l3, l4, l5, l6, l7, l8] [] (putR h a1 7 z0) Q := Rn_nx pg209 rfl ((if_pos ⟨(hk ▸ Nat.le_refl _), (hk ▸ Nat.le_refl _)⟩).trans rfl)
theorem sJ7_treeifyBin_71 : Rn r 209 71 [l0, l1, l2, l3, l4, l5, l6, some (vR z), l8] [] h Q ↔ Rn r 209 73 [l0, l1, l2, l3, l4, l5, l6, some (vR z), l8] [vR z] h Q := Rn_nx pg209 rfl rfl
theorem sJ7_treeifyBin_73 : Rn r 209 73 [l0, l1, l2, l3, l4, l5, l6, l7, some (vR z)] [vR z0] h Q ↔ Rn r 209 75 [l0, l1, l2, l3, l4, l5, l6, l7, some (vR z)] [vR z, vR z0] h Q := Rn_nx pg209 rfl rfl
theorem sJ7_treeifyBin_75 (hk : hK h a1 = 13) : Rn r 209 75 [l0, l1, l2, l3, l4, l5, l6, l7, l8] [vR z0, vR (some a1)] h Q ↔ Rn r 209 78 [l0, l1, l2, l3, l4, l5, l6, l7, l8] [] (putR h a1 3 z0) Q := Rn_nx pg209 rfl ((if_pos ⟨(hk ▸ Nat.le_refl _), (hk ▸ Nat.le_refl _)⟩).trans rfl)
theorem sJ7_treeifyBin_78 : Rn r 209 78 [l0, l1, l2, l3, l4, l5, l6, l7, some (vR z)] [] h Q ↔ Rn r 209 80 [l0, l1, l2, l3, l4, l5, l6, l7, some (vR z)] [vR z] h Q := Rn_nx pg209 rfl rfl
theorem sJ7_treeifyBin_80 : Rn r 209 80 [l0, l1, l2, l3, l4, l5, l6, l7, l8] [vR z0] h Q ↔ Rn r 209 82 [l0, l1, l2, l3, l4, l5, l6, some (vR z0), l8] [] h Q := Rn_nx pg209 rfl rfl
theorem sJ7_treeifyBin_82 : Rn r 209 82 [l0, l1, l2, l3, l4, some (vR z), l6, l7, l8] [] h Q ↔ Rn r 209 84 [l0, l1, l2, l3, l4, some (vR z), l6, l7, l8] [vR z] h Q := Rn_nx pg209 rfl rfl
theorem sJ7_treeifyBin_84 (hk : 12 ≤ hK h a0) (hk2 : hK h a0 ≤ 13) : Rn r 209 84 [l0, l1, l2, l3, l4, l5, l6, l7, l8] [vR (some a0)] h Q ↔ Rn r 209 87 [l0, l1, l2, l3, l4, l5, l6, l7, l8] [vR (hR h a0 3)] h Q := Rn_nx pg209 rfl (if_pos ⟨hk, hk2⟩)
theorem sJ7_treeifyBin_87 : Rn r 209 87 [l0, l1, l2, l3, l4, l5, l6, l7, l8] [vR z0] h Q ↔ Rn r 209 88 [l0, l1, l2, l3, l4, l5, l6, l7, l8] [vR z0, vR z0] h Q := Rn_nx pg209 rfl rfl
theorem sJ7_treeifyBin_88 : Rn r 209 88 [l0, l1, l2, l3, l4, l5, l6, l7, l8] [vR z0, vR z1] h Q ↔ Rn r 209 90 [l0, l1, l2, l3, l4, some (vR z0), l6, l7, l8] [vR z1] h Q := Rn_nx pg209 rfl rfl
theorem sJ7_treeifyBin_90 : Rn r 209 90 [l0, l1, l2, l3, l4, l5, l6, l7, l8] [vR z0] h Q ↔ if z0 ≠ none then Rn r 209 43 [l0, l1, l2, l3, l4, l5, l6, l7, l8] [] h Q else Rn r 209 93 [l0, l1, l2, l3, l4, l5, l6, l7, l8] [] h Q := Rn_if pg209 rfl rfl rfl
theorem sJ7_treeifyBin_93 : Rn r 209 93 [l0, some (vR z), l2, l3, l4, l5, l6, l7, l8] [] h Q ↔ Rn r 209 94 [l0, some (vR z), l2, l3, l4, l5, l6, l7, l8] [vR z] h Q := Rn_nx pg209 rfl rfl
theorem sJ7_treeifyBin_94 : Rn r 209 94 [l0, l1, l2, l3, some (vI x), l5, l6, l7, l8] [vR z0] h Q ↔ Rn r 209 96 [l0, l1, l2, l3, some (vI x), l5, l6, l7, l8] [vI x, vR z0] h Q := Rn_nx pg209 rfl rfl
theorem sJ7_treeifyBin_96 : Rn r 209 96 [l0, l1, l2, l3, l4, l5, some (vR z), l7, l8] [vI x0, vR z1] h Q ↔ Rn r 209 98 [l0, l1, l2, l3, l4, l5, some (vR z), l7, l8] [vR z, vI x0, vR z1] h Q := Rn_nx pg209 rfl rfl
theorem sJ7_treeifyBin_98 : Rn r 209 98 [l0, l1, l2, l3, l4, l5, l6, l7, l8] [vR z0, vI x1, vR z2] h Q ↔ Rn r 209 99 [l0, l1, l2, l3, l4, l5, l6, l7, l8] [vR z0, vI x1, vR z2, vR z0] h Q := Rn_nx pg209 rfl rfl
theorem sJ7_treeifyBin_99_n (hk : hK h a2 = 46 ∨ hK h a2 = 48) (hx : ¬ (x1 < 0 ∨ hL h a2 ≤ x1.toNatClampNeg)) : Rn r 209 99 [l0, l1, l2, l3, l4, l5, l6, l7, l8] [vR none, vI x1, vR (some a2), vR z3] h Q ↔ Rn r 209 100 [l0, l1, l2, l3, l4, l5, l6, l7, l8] [vR z3] (putR h a2 x1.toNatClampNeg none) Q := Rn_nx pg209 rfl ((if_pos hk).trans (if_neg hx))
theorem sJ7_treeifyBin_99 (hk : (hK h a2 = 46 ∧ 0 < hK h a0 ∧ hK h a0 < 40) ∨ (hK h a2 = 48 ∧ 12 ≤ hK h a0 ∧ hK h a0 ≤ 13)) (hx : ¬ (x1 < 0 ∨ hL h a2 ≤ x1.toNatClampNeg)) : Rn r 209 99 [l0, l1, l2, l3, l4, l5, l6, l7, l8] [vR (some a0), vI x1, vR (some a2), vR z3] h Q ↔ Rn r 209 100 [l0, l1, l2, l3, l4, l5, l6, l7, l8] [vR z3] (putR h a2 x1.toNatClampNeg (some a0)) Q := Rn_nx pg209 rfl ((if_pos hk).trans (if_neg hx))
theorem sJ7_treeifyBin_100 : Rn r 209 100 [l0, l1, l2, l3, l4, l5, l6, l7, l8] [vR z0] h Q ↔ if z0 = none then Rn r 209 109 [l0, l1, l2, l3, l4, l5, l6, l7, l8] [] h Q else Rn r 209 103 [l0, l1, l2, l3, l4, l5, l6, l7, l8] [] h Q := Rn_if pg209 rfl rfl rfl
theorem sJ7_treeifyBin_103 : Rn r 209 103 [l0, l1, l2, l3, l4, l5, some (vR z), l7, l8] [] h Q ↔ Rn r 209 105 [l0, l1, l2, l3, l4, l5, some (vR z), l7, l8] [vR z] h Q := Rn_nx pg209 rfl rfl
theorem sJ7_treeifyBin_105 : Rn r 209 105 [l0, some (vR z), l2, l3, l4, l5, l6, l7, l8] [vR z0] h Q ↔ Rn r 209 106 [l0, some (vR z), l2, l3, l4, l5, l6, l7, l8] [vR z, vR z0] h Q := Rn_nx pg209 rfl rfl
theorem sJ7_treeifyBin_106 (hk : hK h a1 = 13) : Rn r 209 106 [l0, l1, l2, l3, l4, l5, l6, l7, l8] [vR z0, vR (some a1)] h Q ↔ Cl r 263 [vR (some a1), vR z0] h (Kt r 209 109 [l0, l1, l2, l3, l4, l5, l6, l7, l8] [] Q) := Rn_call pg209 rfl (by simp only [am_exec, am_inv, am_pop, am_lk, hk]; rfl) pg263 rfl rfl rfl
theorem sJ7_treeifyBin_109 : Rn r 209 109 [l0, l1, l2, l3, l4, l5, l6, l7, l8] [] h Q ↔ Q (Sum.inl none) h := Rn_end pg209 rfl rfl
/-! 210 java/util/HashMap.afterNodeAccess(Ljava/util/HashMap$Node;)V -/
theorem eJ7_afterNodeAccess : Cl r 210 [vR z0, vR z1] h Q ↔ Rn r 210 0 [some (vR z0), some (vR z1)] [] h Q := Cl_in pg210 rfl
theorem sJ7_afterNodeAccess_0 : Rn r 210 0 [l0, l1] [] h Q ↔ Q (Sum.inl none) h := Rn_end pg210 rfl rfl
/-! 211 java/util/HashMap.afterNodeInsertion(Z)V -/
theorem eJ7_afterNodeInsertion : Cl r 211 [vR z0, vI x1] h Q ↔ Rn r 211 0 [some (vR z0), some (vI x1)] [] h Q := Cl_in pg211 rfl
theorem sJ7_afterNodeInsertion_0 : Rn r 211 0 [l0, l1] [] h Q ↔ Q (Sum.inl none) h := Rn_end pg211 rfl rfl
/-! 212 java/lang/String.isLatin1()Z -/
theorem eJ13_isLatin1 : Cl r 212 [vR z0] h Q ↔ Rn r 212 0 [some (vR z0)] [] h Q := Cl_in pg212 rfl
theorem sJ13_isLatin1_0 : Rn r 212 0 [l0] [] h Q ↔ Rn r 212 3 [l0] [vI 1] h Q := Rn_nx pg212 rfl rfl
theorem sJ13_isLatin1_3 : Rn r 212 3 [l0] [vI x0] h Q ↔ if x0 = 0 then Rn r 212 17 [l0] [] h Q else Rn r 212 6 [l0] [] h Q := Rn_if pg212 rfl rfl rfl
theorem sJ13_isLatin1_6 : Rn r 212 6 [some (vR z)] [] h Q ↔ Rn r 212 7 [some (vR z)] [vR z] h Q := Rn_nx pg212 rfl rfl
theorem sJ13_isLatin1_7 (hk : 10 ≤ hK h a0) (hk2 : hK h a0 ≤ 11) : Rn r 212 7 [l0] [vR (some a0)] h Q ↔ Rn r 212 10 [l0] [vI (hI h a0 1)] h Q := Rn_nx pg212 rfl (if_pos ⟨hk, hk2⟩)
theorem sJ13_isLatin1_10 : Rn r 212 10 [l0] [vI x0] h Q ↔ if x0 ≠ 0 then Rn r 212 17 [l0] [] h Q else Rn r 212 13 [l0] [] h Q := Rn_if pg212 rfl rfl rfl
theorem sJ13_isLatin1_13 : Rn r 212 13 [l0] [] h Q ↔ Rn r 212 14 [l0] [vI 1] h Q := Rn_nx pg212 rfl rfl
theorem sJ13_isLatin1_14 : Rn r 212 14 [l0] [vI x0] h Q ↔ Rn r 212 18 [l0] [vI x0] h Q := Rn_nx pg212 rfl rfl
theorem sJ13_isLatin1_17 : Rn r 212 17 [l0] [] h Q ↔ Rn r 212 18 [l0] [vI 0] h Q := Rn_nx pg212 rfl rfl
theorem sJ13_isLatin1_18 (hf : am_fit 4 x0 = true) : Rn r 212 18 [l0] [vI x0] h Q ↔ Q (Sum.inl (some (vI x0))) h := Rn_end pg212 rfl (if_pos hf)
/-! 213 java/lang/String.length()I -/
theorem eJ13_length : Cl r 213 [vR z0] h Q ↔ Rn r 213 0 [some (vR z0)] [] h Q := Cl_in pg213 rfl
theorem sJ13_length_0 : Rn r 213 0 [some (vR z)] [] h Q ↔ Rn r 213 1 [some (vR z)] [vR z] h Q := Rn_nx pg213 rfl rfl
theorem sJ13_length_1 (hk : 10 ≤ hK h a0) (hk2 : hK h a0 ≤ 11) : Rn r 213 1 [l0] [vR (some a0)] h Q ↔ Rn r 213 4 [l0] [vR (hR h a0 0)] h Q := Rn_nx pg213 rfl (if_pos ⟨hk, hk2⟩)
theorem sJ13_length_4 (hk : 40 ≤ hK h a0) (hk2 : hK h a0 ≤ 49) : Rn r 213 4 [l0] [vR (some a0)] h Q ↔ Rn r 213 5 [l0] [vI (nI (hL h a0))] h Q := Rn_nx pg213 rfl (if_pos ⟨hk, hk2⟩)
theorem sJ13_length_5 : Rn r 213 5 [some (vR z)] [vI x0] h Q ↔ Rn r 213 6 [some (vR z)] [vR z, vI x0] h Q := Rn_nx pg213 rfl rfl
theorem sJ13_length_6 (hk : 10 ≤ hK h a0) (hk2 : hK h a0 ≤ 11) : Rn r 213 6 [l0] [vR (some a0), vI x1] h Q ↔ Cl r 264 [vR (some a0)] h (Kt r 213 9 [l0] [vI x1] Q) := Rn_call pg213 rfl (by rcases am_rng2 hk hk2 with q | q <;> simp only [am_exec, am_inv, am_pop, am_lk, q] <;> rfl) pg264 rfl rfl rfl
theorem sJ13_length_9 : Rn r 213 9 [l0] [vI x0, vI x1] h Q ↔ Rn r 213 10 [l0] [vI (x1 >>> (x0 &&& 31))] h Q := Rn_nx pg213 rfl rfl
theorem sJ13_length_10 : Rn r 213 10 [l0] [vI x0] h Q ↔ Q (Sum.inl (some (vI x0))) h := Rn_end pg213 rfl rfl
/-! 214 java/lang/StringLatin1.indexOf([BIII)I -/
theorem eJ14_indexOf : Cl r 214 [vR z0, vI x1, vI x2, vI x3] h Q ↔ Rn r 214 0 [some (vR z0), some (vI x1), some (vI x2), some (vI x3)] [] h Q := Cl_in pg214 rfl
theorem sJ14_indexOf_0 : Rn r 214 0 [l0, some (vI x), l2, l3] [] h Q ↔ Rn r 214 1 [l0, some (vI x), l2, l3] [vI x] h Q := Rn_nx pg214 rfl rfl
theorem sJ14_indexOf_1 : Rn r 214 1 [l0, l1, l2, l3] [vI x0] h Q ↔ Cl r 265 [vI x0] h (Kt r 214 4 [l0, l1, l2, l3] [] Q) := Rn_call pg214 rfl rfl pg265 rfl rfl rfl
theorem sJ14_indexOf_4 : Rn r 214 4 [l0, l1, l2, l3] [vI x0] h Q ↔ if x0 ≠ 0 then Rn r 214 9 [l0, l1, l2, l3] [] h Q else Rn r 214 7 [l0, l1, l2, l3] [] h Q := Rn_if pg214 rfl rfl rfl
theorem sJ14_indexOf_7 : Rn r 214 7 [l0, l1, l2, l3] [] h Q ↔ Rn r 214 8 [l0, l1, l2, l3] [vI (-1)] h Q := Rn_nx pg214 rfl rfl
theorem sJ14_indexOf_8 : Rn r 214 8 [l0, l1, l2, l3] [vI x0] h Q ↔ Q (Sum.inl (some (vI x0))) h := Rn_end pg214 rfl rfl
theorem sJ14_indexOf_9 : Rn r 214 9 [l0, l1, some (vI x), l3] [] h Q ↔ Rn r 214 10 [l0, l1, some (vI x), l3] [vI x] h Q := Rn_nx pg214 rfl rfl
theorem sJ14_indexOf_10 : Rn r 214 10 [l0, l1, l2, l3] [vI x0] h Q ↔ Rn r 214 11 [l0, l1, l2, l3] [vI 0, vI x0] h Q := Rn_nx pg214 rfl rfl
theorem sJ14_indexOf_11 : Rn r 214 11 [l0, l1, l2, l3] [vI x0, vI x1] h Q ↔ Cl r 266 [vI x1, vI x0] h (Kt r 214 14 [l0, l1, l2, l3] [] Q) := Rn_call pg214 rfl rfl pg266 rfl rfl rfl
theorem sJ14_indexOf_14 : Rn r 214 14 [l0, l1, l2, l3] [vI x0] h Q ↔ Rn r 214 15 [l0, l1, some (vI x0), l3] [] h Q := Rn_nx pg214 rfl rfl
theorem sJ14_indexOf_15 : Rn r 214 15 [l0, l1, l2, some (vI x)] [] h Q ↔ Rn r 214 16 [l0, l1, l2, some (vI x)] [vI x] h Q := Rn_nx pg214 rfl rfl
theorem sJ14_indexOf_16 : Rn r 214 16 [some (vR z), l1, l2, l3] [vI x0] h Q ↔ Rn r 214 17 [some (vR z), l1, l2, l3] [vR z, vI x0] h Q := Rn_nx pg214 rfl rfl
theorem sJ14_indexOf_17 (hk : 40 ≤ hK h a0) (hk2 : hK h a0 ≤ 49) : Rn r 214 17 [l0, l1, l2, l3] [vR (some a0), vI x1] h Q ↔ Rn r 214 18 [l0, l1, l2, l3] [vI (nI (hL h a0)), vI x1] h Q := Rn_nx pg214 rfl (if_pos ⟨hk, hk2⟩)
theorem sJ14_indexOf_18 : Rn r 214 18 [l0, l1, l2, l3] [vI x0, vI x1] h Q ↔ Cl r 246 [vI x1, vI x0] h (Kt r 214 21 [l0, l1, l2, l3] [] Q) := Rn_call pg214 rfl rfl pg246 rfl rfl rfl
theorem sJ14_indexOf_21 : Rn r 214 21 [l0, l1, l2, l3] [vI x0] h Q ↔ Rn r 214 22 [l0, l1, l2, some (vI x0)] [] h Q := Rn_nx pg214 rfl rfl
theorem sJ14_indexOf_22 : Rn r 214 22 [l0, l1, some (vI x), l3] [] h Q ↔ Rn r 214 23 [l0, l1, some (vI x), l3] [vI x] h Q := Rn_nx pg214 rfl rfl
theorem sJ14_indexOf_23 : Rn r 214 23 [l0, l1, l2, some (vI x)] [vI x0] h Q ↔ Rn r 214 24 [l0, l1, l2, some (vI x)] [vI x, vI x0] h Q := Rn_nx pg214 rfl rfl
theorem sJ14_indexOf_24 : Rn r 214 24 [l0, l1, l2, l3] [vI x0, vI x1] h Q ↔ if x1 < x0 then Rn r 214 29 [l0, l1, l2, l3] [] h Q else Rn r 214 27 [l0, l1, l2, l3] [] h Q := Rn_if pg214 rfl rfl rfl
theorem sJ14_indexOf_27 : Rn r 214 27 [l0, l1, l2, l3] [] h Q ↔ Rn r 214 28 [l0, l1, l2, l3] [vI (-1)] h Q := Rn_nx pg214 rfl rfl
theorem sJ14_indexOf_28 : Rn r 214 28 [l0, l1, l2, l3] [vI x0] h Q ↔ Q (Sum.inl (some (vI x0))) h := Rn_end pg214 rfl rfl
theorem sJ14_indexOf_29 : Rn r 214 29 [some (vR z), l1, l2, l3] [] h Q ↔ Rn r 214 30 [some (vR z), l1, l2, l3] [vR z] h Q := Rn_nx pg214 rfl rfl
theorem sJ14_indexOf_30 : Rn r 214 30 [l0, some (vI x), l2, l3] [vR z0] h Q ↔ Rn r 214 31 [l0, some (vI x), l2, l3] [vI x, vR z0] h Q := Rn_nx pg214 rfl rfl
theorem sJ14_indexOf_31 : Rn r 214 31 [l0, l1, some (vI x), l3] [vI x0, vR z1] h Q ↔ Rn r 214 32 [l0, l1, some (vI x), l3] [vI x, vI x0, vR z1] h Q := Rn_nx pg214 rfl rfl
theorem sJ14_indexOf_32 : Rn r 214 32 [l0, l1, l2, some (vI x)] [vI x0, vI x1, vR z2] h Q ↔ Rn r 214 33 [l0, l1, l2, some (vI x)] [vI x, vI x0, vI x1, vR z2] h Q := Rn_nx pg214 rfl rfl
theorem sJ14_indexOf_33 : Rn r 214 33 [l0, l1, l2, l3] [vI x0, vI x1, vI x2, vR z3] h Q ↔ Cl r 267 [vR z3, vI x2, vI x1, vI x0] h (Kt r 214 36 [l0, l1, l2, l3] [] Q) := Rn_call pg214 rfl rfl pg267 rfl rfl rfl
theorem sJ14_indexOf_36 : Rn r 214 36 [l0, l1, l2, l3] [vI x0] h Q ↔ Q (Sum.inl (some (vI x0))) h := Rn_end pg214 rfl rfl
/-! 215 java/lang/StringBuilder.<init>()V -/
theorem eJ23_init_2 : Cl r 215 [vR z0] h Q ↔ Rn r 215 0 [some (vR z0)] [] h Q := Cl_in pg215 rfl
theorem sJ23_init_2_0 : Rn r 215 0 [some (vR z)] [] h Q ↔ Rn r 215 1 [some (vR z)] [vR z] h Q := Rn_nx pg215 rfl rfl
theorem sJ23_init_2_1 : Rn r 215 1 [l0] [vR z0] h Q ↔ Rn r 215 3 [l0] [vI 16, vR z0] h Q := Rn_nx pg215 rfl rfl
theorem sJ23_init_2_3 (hk : 0 < hK h a1) (hk2 : hK h a1 < 40) : Rn r 215 3 [l0] [vI x0, vR (some a1)] h Q ↔ Cl r 102 [vR (some a1), vI x0] h (Kt r 215 6 [l0] [] Q) := Rn_call pg215 rfl (if_pos ⟨hk, hk2⟩) pg102 rfl rfl rfl
theorem sJ23_init_2_6 : Rn r 215 6 [l0] [] h Q ↔ Q (Sum.inl none) h := Rn_end pg215 rfl rfl
/-! 216 java/lang/StringBuilder.append(Ljava/lang/String;)Ljava/lang/StringBuilder; -/
theorem eJ23_append_2 : Cl r 216 [vR z0, vR z1] h Q ↔ Rn r 216 0 [some (vR z0), some (vR z1)] [] h Q := Cl_in pg216 rfl
theorem sJ23_append_2_0 : Rn r 216 0 [some (vR z), l1] [] h Q ↔ Rn r 216 1 [some (vR z), l1] [vR z] h Q := Rn_nx pg216 rfl rfl
theorem sJ23_append_2_1 : Rn r 216 1 [l0, some (vR z)] [vR z0] h Q ↔ Rn r 216 2 [l0, some (vR z)] [vR z, vR z0] h Q := Rn_nx pg216 rfl rfl
theorem sJ23_append_2_2 (hk : 0 < hK h a1) (hk2 : hK h a1 < 40) : Rn r 216 2 [l0, l1] [vR z0, vR (some a1)] h Q ↔ Cl r 268 [vR (some a1), vR z0] h (Kt r 216 5 [l0, l1] [] Q) := Rn_call pg216 rfl (if_pos ⟨hk, hk2⟩) pg268 rfl rfl rfl
theorem sJ23_append_2_5 : Rn r 216 5 [l0, l1] [vR z0] h Q ↔ Rn r 216 6 [l0, l1] [] h Q := Rn_nx pg216 rfl rfl
theorem sJ23_append_2_6 : Rn r 216 6 [some (vR z), l1] [] h Q ↔ Rn r 216 7 [some (vR z), l1] [vR z] h Q := Rn_nx pg216 rfl rfl
theorem sJ23_append_2_7 : Rn r 216 7 [l0, l1] [vR z0] h Q ↔ Q (Sum.inl (some (vR z0))) h := Rn_end pg216 rfl rfl
/-! 217 java/lang/String.contains(Ljava/lang/CharSequence;)Z -/
theorem eJ13_contains : Cl r 217 [vR z0, vR z1] h Q ↔ Rn r 217 0 [some (vR z0), some (vR z1)] [] h Q := Cl_in pg217 rfl
theorem sJ13_contains_0 : Rn r 217 0 [some (vR z), l1] [] h Q ↔ Rn r 217 1 [some (vR z), l1] [vR z] h Q := Rn_nx pg217 rfl rfl
theorem sJ13_contains_1 : Rn r 217 1 [l0, some (vR z)] [vR z0] h Q ↔ Rn r 217 2 [l0, some (vR z)] [vR z, vR z0] h Q := Rn_nx pg217 rfl rfl
theorem sJ13_contains_2 (hk : 10 ≤ hK h a0) (hk2 : hK h a0 ≤ 11) : Rn r 217 2 [l0, l1] [vR (some a0), vR z1] h Q ↔ Cl r 269 [vR (some a0)] h (Kt r 217 7 [l0, l1] [vR z1] Q) := Rn_call pg217 rfl (by rcases am_rng2 hk hk2 with q | q <;> simp only [am_exec, am_inv, am_pop, am_lk, q] <;> rfl) pg269 rfl rfl rfl
theorem sJ13_contains_7 (hk : 10 ≤ hK h a1) (hk2 : hK h a1 ≤ 11) : Rn r 217 7 [l0, l1] [vR z0, vR (some a1)] h Q ↔ Cl r 270 [vR (some a1), vR z0] h (Kt r 217 10 [l0, l1] [] Q) := Rn_call pg217 rfl (by rcases am_rng2 hk hk2 with q | q <;> simp only [am_exec, am_inv, am_pop, am_lk, q] <;> rfl) pg270 rfl rfl rfl
theorem sJ13_contains_10 : Rn r 217 10 [l0, l1] [vI x0] h Q ↔ if x0 < 0 then Rn r 217 17 [l0, l1] [] h Q else Rn r 217 13 [l0, l1] [] h Q := Rn_if pg217 rfl rfl rfl
theorem sJ13_contains_13 : Rn r 217 13 [l0, l1] [] h Q ↔ Rn r 217 14 [l0, l1] [vI 1] h Q := Rn_nx pg217 rfl rfl
theorem sJ13_contains_14 : Rn r 217 14 [l0, l1] [vI x0] h Q ↔ Rn r 217 18 [l0, l1] [vI x0] h Q := Rn_nx pg217 rfl rfl
theorem sJ13_contains_17 : Rn r 217 17 [l0, l1] [] h Q ↔ Rn r 217 18 [l0, l1] [vI 0] h Q := Rn_nx pg217 rfl rfl
theorem sJ13_contains_18 (hf : am_fit 4 x0 = true) : Rn r 217 18 [l0, l1] [vI x0] h Q ↔ Q (Sum.inl (some (vI x0))) h := Rn_end pg217 rfl (if_pos hf)
/-! 218 java/lang/Record.<init>()V -/
theorem eJ25_init : Cl r 218 [vR z0] h Q ↔ Rn r 218 0 [some (vR z0)] [] h Q := Cl_in pg218 rfl
theorem sJ25_init_0 : Rn r 218 0 [some (vR z)] [] h Q ↔ Rn r 218 1 [some (vR z)] [vR z] h Q := Rn_nx pg218 rfl rfl
theorem sJ25_init_1 : Rn r 218 1 [l0] [vR (some a0)] h Q ↔ Rn r 218 4 [l0] [] h Q := Rn_nx pg218 rfl rfl
theorem sJ25_init_4 : Rn r 218 4 [l0] [] h Q ↔ Q (Sum.inl none) h := Rn_end pg218 rfl rfl
/-! 219 java/util/ArrayList.rangeCheckForAdd(I)V -/
theorem eJ5_rangeCheckForAdd : Cl r 219 [vR z0, vI x1] h Q ↔ Rn r 219 0 [some (vR z0), some (vI x1)] [] h Q := Cl_in pg219 rfl
theorem sJ5_rangeCheckForAdd_0 : Rn r 219 0 [l0, some (vI x)] [] h Q ↔ Rn r 219 1 [l0, some (vI x)] [vI x] h Q := Rn_nx pg219 rfl rfl
theorem sJ5_rangeCheckForAdd_1 : Rn r 219 1 [some (vR z), l1] [vI x0] h Q ↔ Rn r 219 2 [some (vR z), l1] [vR z, vI x0] h Q := Rn_nx pg219 rfl rfl
theorem sJ5_rangeCheckForAdd_2 (hk : hK h a0 = 4) : Rn r 219 2 [l0, l1] [vR (some a0), vI x1] h Q ↔ Rn r 219 5 [l0, l1] [vI (hI h a0 2), vI x1] h Q := Rn_nx pg219 rfl (if_pos ⟨(hk ▸ Nat.le_refl _), (hk ▸ Nat.le_refl _)⟩)
theorem sJ5_rangeCheckForAdd_5 : Rn r 219 5 [l0, l1] [vI x0, vI x1] h Q ↔ if x0 < x1 then Rn r 219 12 [l0, l1] [] h Q else Rn r 219 8 [l0, l1] [] h Q := Rn_if pg219 rfl rfl rfl
theorem sJ5_rangeCheckForAdd_8 : Rn r 219 8 [l0, some (vI x)] [] h Q ↔ Rn r 219 9 [l0, some (vI x)] [vI x] h Q := Rn_nx pg219 rfl rfl
theorem sJ5_rangeCheckForAdd_9 : Rn r 219 9 [l0, l1] [vI x0] h Q ↔ if 0 ≤ x0 then Rn r 219 25 [l0, l1] [] h Q else Rn r 219 12 [l0, l1] [] h Q := Rn_if pg219 rfl rfl rfl
theorem sJ5_rangeCheckForAdd_15 : Rn r 219 15 [l0, l1] [vR z0] h Q ↔ Rn r 219 16 [l0, l1] [vR z0, vR z0] h Q := Rn_nx pg219 rfl rfl
theorem sJ5_rangeCheckForAdd_16 : Rn r 219 16 [some (vR z), l1] [vR z0, vR z1] h Q ↔ Rn r 219 17 [some (vR z), l1] [vR z, vR z0, vR z1] h Q := Rn_nx pg219 rfl rfl
theorem sJ5_rangeCheckForAdd_17 : Rn r 219 17 [l0, some (vI x)] [vR z0, vR z1, vR z2] h Q ↔ Rn r 219 18 [l0, some (vI x)] [vI x, vR z0, vR z1, vR z2] h Q := Rn_nx pg219 rfl rfl
theorem sJ5_rangeCheckForAdd_25 : Rn r 219 25 [l0, l1] [] h Q ↔ Q (Sum.inl none) h := Rn_end pg219 rfl rfl
/-! 220 ThrowRules$Reader.made()LThrowRules$Statement; -/
theorem eX1_made : Cl r 220 [vR z0] h Q ↔ Rn r 220 0 [some (vR z0), none, none] [] h Q := Cl_in pg220 rfl
theorem sX1_made_0 : Rn r 220 0 [some (vR z), l1, l2] [] h Q ↔ Rn r 220 1 [some (vR z), l1, l2] [vR z] h Q := Rn_nx pg220 rfl rfl
theorem sX1_made_1 (hk : hK h a0 = 2) : Rn r 220 1 [l0, l1, l2] [vR (some a0)] h Q ↔ Rn r 220 4 [l0, l1, l2] [vI (hI h a0 6)] h Q := Rn_nx pg220 rfl (if_pos ⟨(hk ▸ Nat.le_refl _), (hk ▸ Nat.le_refl _)⟩)
theorem sX1_made_4 : Rn r 220 4 [l0, l1, l2] [vI x0] h Q ↔ Rn r 220 6 [l0, l1, l2] [vI 123, vI x0] h Q := Rn_nx pg220 rfl rfl
theorem sX1_made_6 : Rn r 220 6 [l0, l1, l2] [vI x0, vI x1] h Q ↔ if x1 ≠ x0 then Rn r 220 17 [l0, l1, l2] [] h Q else Rn r 220 9 [l0, l1, l2] [] h Q := Rn_if pg220 rfl rfl rfl
theorem sX1_made_9 : Rn r 220 9 [l0, l1, l2] [] h Q ↔ Rn r 220 12 [l0, l1, l2] [vR (some (hN h))] (newC h 38 6) Q := Rn_nx pg220 rfl rfl
theorem sX1_made_12 : Rn r 220 12 [l0, l1, l2] [vR z0] h Q ↔ Rn r 220 13 [l0, l1, l2] [vR z0, vR z0] h Q := Rn_nx pg220 rfl rfl
theorem sX1_made_13 (hk : 0 < hK h a0) (hk2 : hK h a0 < 40) : Rn r 220 13 [l0, l1, l2] [vR (some a0), vR z1] h Q ↔ Cl r 271 [vR (some a0)] h (Kt r 220 16 [l0, l1, l2] [vR z1] Q) := Rn_call pg220 rfl (if_pos ⟨hk, hk2⟩) pg271 rfl rfl rfl
theorem sX1_made_16 : Rn r 220 16 [l0, l1, l2] [vR z0] h Q ↔ Q (Sum.inl (some (vR z0))) h := Rn_end pg220 rfl rfl
theorem sX1_made_17 : Rn r 220 17 [some (vR z), l1, l2] [] h Q ↔ Rn r 220 18 [some (vR z), l1, l2] [vR z] h Q := Rn_nx pg220 rfl rfl
theorem sX1_made_18 (hk : hK h a0 = 2) : Rn r 220 18 [l0, l1, l2] [vR (some a0)] h Q ↔ Rn r 220 21 [l0, l1, l2] [vR (hR h a0 5)] h Q := Rn_nx pg220 rfl (if_pos ⟨(hk ▸ Nat.le_refl _), (hk ▸ Nat.le_refl _)⟩)
theorem sX1_made_21 : Rn r 220 21 [l0, l1, l2] [vR z0] h Q ↔ Rn r 220 22 [l0, some (vR z0), l2] [] h Q := Rn_nx pg220 rfl rfl
theorem sX1_made_22 : Rn r 220 22 [l0, l1, l2] [] h Q ↔ Rn r 220 23 [l0, l1, l2] [vI (-1)] h Q := Rn_nx pg220 rfl rfl
theorem sX1_made_23 : Rn r 220 23 [l0, l1, l2] [vI x0] h Q ↔ Rn r 220 24 [l0, l1, some (vI x0)] [] h Q := Rn_nx pg220 rfl rfl
theorem sX1_made_24 : Rn r 220 24 [l0, some (vR z), l2] [] h Q ↔ Rn r 220 25 [l0, some (vR z), l2] [vR z] h Q := Rn_nx pg220 rfl rfl
theorem sX1_made_25 (hk : 10 ≤ hK h a0) (hk2 : hK h a0 ≤ 11) : Rn r 220 25 [l0, l1, l2] [vR (some a0)] h Q ↔ Cl r 191 [vR (some a0)] h (Kt r 220 28 [l0, l1, l2] [] Q) := Rn_call pg220 rfl (by rcases am_rng2 hk hk2 with q | q <;> simp only [am_exec, am_inv, am_pop, am_lk, q] <;> rfl) pg191 rfl rfl rfl
theorem sX1_made_28 : Rn r 220 28 [l0, l1, l2] [vI x0] h Q ↔ Rn r 220 (if x0 = (-934396624) then 242 else if x0 = 3211 then 120 else if x0 = 3357 then 180 else if x0 = 113762 then 165 else if x0 = 115131 then 258 else if x0 = 3045982 then 135 else if x0 = 3327652 then 210 else if x0 = 94001407 then 226 else if x0 = 110339814 then 150 else if x0 = 113101617 then 195 else 271) [l0, l1, l2] [] h Q := Rn_nx pg220 rfl rfl
theorem sX1_made_120 : Rn r 220 120 [l0, some (vR z), l2] [] h Q ↔ Rn r 220 121 [l0, some (vR z), l2] [vR z] h Q := Rn_nx pg220 rfl rfl
theorem sX1_made_121 : Rn r 220 121 [l0, l1, l2] [vR z0] h Q ↔ Rn r 220 124 [l0, l1, l2] [vR (some (hE h 14)), vR z0] h Q := Rn_nx pg220 rfl rfl
theorem sX1_made_124 (hk : 10 ≤ hK h a1) (hk2 : hK h a1 ≤ 11) : Rn r 220 124 [l0, l1, l2] [vR z0, vR (some a1)] h Q ↔ Cl r 125 [vR (some a1), vR z0] h (Kt r 220 127 [l0, l1, l2] [] Q) := Rn_call pg220 rfl (by rcases am_rng2 hk hk2 with q | q <;> simp only [am_exec, am_inv, am_pop, am_lk, q] <;> rfl) pg125 rfl rfl rfl
theorem sX1_made_127 : Rn r 220 127 [l0, l1, l2] [vI x0] h Q ↔ if x0 = 0 then Rn r 220 271 [l0, l1, l2] [] h Q else Rn r 220 130 [l0, l1, l2] [] h Q := Rn_if pg220 rfl rfl rfl
theorem sX1_made_130 : Rn r 220 130 [l0, l1, l2] [] h Q ↔ Rn r 220 131 [l0, l1, l2] [vI 0] h Q := Rn_nx pg220 rfl rfl
theorem sX1_made_131 : Rn r 220 131 [l0, l1, l2] [vI x0] h Q ↔ Rn r 220 132 [l0, l1, some (vI x0)] [] h Q := Rn_nx pg220 rfl rfl
theorem sX1_made_132 : Rn r 220 132 [l0, l1, l2] [] h Q ↔ Rn r 220 271 [l0, l1, l2] [] h Q := Rn_nx pg220 rfl rfl
theorem sX1_made_135 : Rn r 220 135 [l0, some (vR z), l2] [] h Q ↔ Rn r 220 136 [l0, some (vR z), l2] [vR z] h Q := Rn_nx pg220 rfl rfl
theorem sX1_made_136 : Rn r 220 136 [l0, l1, l2] [vR z0] h Q ↔ Rn r 220 139 [l0, l1, l2] [vR (some (hE h 15)), vR z0] h Q := Rn_nx pg220 rfl rfl
theorem sX1_made_139 (hk : 10 ≤ hK h a1) (hk2 : hK h a1 ≤ 11) : Rn r 220 139 [l0, l1, l2] [vR z0, vR (some a1)] h Q ↔ Cl r 125 [vR (some a1), vR z0] h (Kt r 220 142 [l0, l1, l2] [] Q) := Rn_call pg220 rfl (by rcases am_rng2 hk hk2 with q | q <;> simp only [am_exec, am_inv, am_pop, am_lk, q] <;> rfl) pg125 rfl rfl rfl
theorem sX1_made_142 : Rn r 220 142 [l0, l1, l2] [vI x0] h Q ↔ if x0 = 0 then Rn r 220 271 [l0, l1, l2] [] h Q else Rn r 220 145 [l0, l1, l2] [] h Q := Rn_if pg220 rfl rfl rfl
theorem sX1_made_145 : Rn r 220 145 [l0, l1, l2] [] h Q ↔ Rn r 220 146 [l0, l1, l2] [vI 1] h Q := Rn_nx pg220 rfl rfl
theorem sX1_made_146 : Rn r 220 146 [l0, l1, l2] [vI x0] h Q ↔ Rn r 220 147 [l0, l1, some (vI x0)] [] h Q := Rn_nx pg220 rfl rfl
theorem sX1_made_147 : Rn r 220 147 [l0, l1, l2] [] h Q ↔ Rn r 220 271 [l0, l1, l2] [] h Q := Rn_nx pg220 rfl rfl
theorem sX1_made_150 : Rn r 220 150 [l0, some (vR z), l2] [] h Q ↔ Rn r 220 151 [l0, some (vR z), l2] [vR z] h Q := Rn_nx pg220 rfl rfl
theorem sX1_made_151 : Rn r 220 151 [l0, l1, l2] [vR z0] h Q ↔ Rn r 220 154 [l0, l1, l2] [vR (some (hE h 16)), vR z0] h Q := Rn_nx pg220 rfl rfl
theorem sX1_made_154 (hk : 10 ≤ hK h a1) (hk2 : hK h a1 ≤ 11) : Rn r 220 154 [l0, l1, l2] [vR z0, vR (some a1)] h Q ↔ Cl r 125 [vR (some a1), vR z0] h (Kt r 220 157 [l0, l1, l2] [] Q) := Rn_call pg220 rfl (by rcases am_rng2 hk hk2 with q | q <;> simp only [am_exec, am_inv, am_pop, am_lk, q] <;> rfl) pg125 rfl rfl rfl
theorem sX1_made_157 : Rn r 220 157 [l0, l1, l2] [vI x0] h Q ↔ if x0 = 0 then Rn r 220 271 [l0, l1, l2] [] h Q else Rn r 220 160 [l0, l1, l2] [] h Q := Rn_if pg220 rfl rfl rfl
theorem sX1_made_160 : Rn r 220 160 [l0, l1, l2] [] h Q ↔ Rn r 220 161 [l0, l1, l2] [vI 2] h Q := Rn_nx pg220 rfl rfl
theorem sX1_made_161 : Rn r 220 161 [l0, l1, l2] [vI x0] h Q ↔ Rn r 220 162 [l0, l1, some (vI x0)] [] h Q := Rn_nx pg220 rfl rfl
theorem sX1_made_162 : Rn r 220 162 [l0, l1, l2] [] h Q ↔ Rn r 220 271 [l0, l1, l2] [] h Q := Rn_nx pg220 rfl rfl
theorem sX1_made_165 : Rn r 220 165 [l0, some (vR z), l2] [] h Q ↔ Rn r 220 166 [l0, some (vR z), l2] [vR z] h Q := Rn_nx pg220 rfl rfl
theorem sX1_made_166 : Rn r 220 166 [l0, l1, l2] [vR z0] h Q ↔ Rn r 220 169 [l0, l1, l2] [vR (some (hE h 17)), vR z0] h Q := Rn_nx pg220 rfl rfl
theorem sX1_made_169 (hk : 10 ≤ hK h a1) (hk2 : hK h a1 ≤ 11) : Rn r 220 169 [l0, l1, l2] [vR z0, vR (some a1)] h Q ↔ Cl r 125 [vR (some a1), vR z0] h (Kt r 220 172 [l0, l1, l2] [] Q) := Rn_call pg220 rfl (by rcases am_rng2 hk hk2 with q | q <;> simp only [am_exec, am_inv, am_pop, am_lk, q] <;> rfl) pg125 rfl rfl rfl
theorem sX1_made_172 : Rn r 220 172 [l0, l1, l2] [vI x0] h Q ↔ if x0 = 0 then Rn r 220 271 [l0, l1, l2] [] h Q else Rn r 220 175 [l0, l1, l2] [] h Q := Rn_if pg220 rfl rfl rfl
theorem sX1_made_175 : Rn r 220 175 [l0, l1, l2] [] h Q ↔ Rn r 220 176 [l0, l1, l2] [vI 3] h Q := Rn_nx pg220 rfl rfl
theorem sX1_made_176 : Rn r 220 176 [l0, l1, l2] [vI x0] h Q ↔ Rn r 220 177 [l0, l1, some (vI x0)] [] h Q := Rn_nx pg220 rfl rfl
theorem sX1_made_177 : Rn r 220 177 [l0, l1, l2] [] h Q ↔ Rn r 220 271 [l0, l1, l2] [] h Q := Rn_nx pg220 rfl rfl
theorem sX1_made_180 : Rn r 220 180 [l0, some (vR z), l2] [] h Q ↔ Rn r 220 181 [l0, some (vR z), l2] [vR z] h Q := Rn_nx pg220 rfl rfl
theorem sX1_made_181 : Rn r 220 181 [l0, l1, l2] [vR z0] h Q ↔ Rn r 220 184 [l0, l1, l2] [vR (some (hE h 18)), vR z0] h Q := Rn_nx pg220 rfl rfl
theorem sX1_made_184 (hk : 10 ≤ hK h a1) (hk2 : hK h a1 ≤ 11) : Rn r 220 184 [l0, l1, l2] [vR z0, vR (some a1)] h Q ↔ Cl r 125 [vR (some a1), vR z0] h (Kt r 220 187 [l0, l1, l2] [] Q) := Rn_call pg220 rfl (by rcases am_rng2 hk hk2 with q | q <;> simp only [am_exec, am_inv, am_pop, am_lk, q] <;> rfl) pg125 rfl rfl rfl
theorem sX1_made_187 : Rn r 220 187 [l0, l1, l2] [vI x0] h Q ↔ if x0 = 0 then Rn r 220 271 [l0, l1, l2] [] h Q else Rn r 220 190 [l0, l1, l2] [] h Q := Rn_if pg220 rfl rfl rfl
theorem sX1_made_190 : Rn r 220 190 [l0, l1, l2] [] h Q ↔ Rn r 220 191 [l0, l1, l2] [vI 4] h Q := Rn_nx pg220 rfl rfl
theorem sX1_made_191 : Rn r 220 191 [l0, l1, l2] [vI x0] h Q ↔ Rn r 220 192 [l0, l1, some (vI x0)] [] h Q := Rn_nx pg220 rfl rfl
theorem sX1_made_192 : Rn r 220 192 [l0, l1, l2] [] h Q ↔ Rn r 220 271 [l0, l1, l2] [] h Q := Rn_nx pg220 rfl rfl
theorem sX1_made_195 : Rn r 220 195 [l0, some (vR z), l2] [] h Q ↔ Rn r 220 196 [l0, some (vR z), l2] [vR z] h Q := Rn_nx pg220 rfl rfl
theorem sX1_made_196 : Rn r 220 196 [l0, l1, l2] [vR z0] h Q ↔ Rn r 220 199 [l0, l1, l2] [vR (some (hE h 19)), vR z0] h Q := Rn_nx pg220 rfl rfl
theorem sX1_made_199 (hk : 10 ≤ hK h a1) (hk2 : hK h a1 ≤ 11) : Rn r 220 199 [l0, l1, l2] [vR z0, vR (some a1)] h Q ↔ Cl r 125 [vR (some a1), vR z0] h (Kt r 220 202 [l0, l1, l2] [] Q) := Rn_call pg220 rfl (by rcases am_rng2 hk hk2 with q | q <;> simp only [am_exec, am_inv, am_pop, am_lk, q] <;> rfl) pg125 rfl rfl rfl
theorem sX1_made_202 : Rn r 220 202 [l0, l1, l2] [vI x0] h Q ↔ if x0 = 0 then Rn r 220 271 [l0, l1, l2] [] h Q else Rn r 220 205 [l0, l1, l2] [] h Q := Rn_if pg220 rfl rfl rfl
theorem sX1_made_205 : Rn r 220 205 [l0, l1, l2] [] h Q ↔ Rn r 220 206 [l0, l1, l2] [vI 5] h Q := Rn_nx pg220 rfl rfl
theorem sX1_made_206 : Rn r 220 206 [l0, l1, l2] [vI x0] h Q ↔ Rn r 220 207 [l0, l1, some (vI x0)] [] h Q := Rn_nx pg220 rfl rfl
theorem sX1_made_207 : Rn r 220 207 [l0, l1, l2] [] h Q ↔ Rn r 220 271 [l0, l1, l2] [] h Q := Rn_nx pg220 rfl rfl
theorem sX1_made_210 : Rn r 220 210 [l0, some (vR z), l2] [] h Q ↔ Rn r 220 211 [l0, some (vR z), l2] [vR z] h Q := Rn_nx pg220 rfl rfl
theorem sX1_made_211 : Rn r 220 211 [l0, l1, l2] [vR z0] h Q ↔ Rn r 220 214 [l0, l1, l2] [vR (some (hE h 20)), vR z0] h Q := Rn_nx pg220 rfl rfl
theorem sX1_made_214 (hk : 10 ≤ hK h a1) (hk2 : hK h a1 ≤ 11) : Rn r 220 214 [l0, l1, l2] [vR z0, vR (some a1)] h Q ↔ Cl r 125 [vR (some a1), vR z0] h (Kt r 220 217 [l0, l1, l2] [] Q) := Rn_call pg220 rfl (by rcases am_rng2 hk hk2 with q | q <;> simp only [am_exec, am_inv, am_pop, am_lk, q] <;> rfl) pg125 rfl rfl rfl
theorem sX1_made_217 : Rn r 220 217 [l0, l1, l2] [vI x0] h Q ↔ if x0 = 0 then Rn r 220 271 [l0, l1, l2] [] h Q else Rn r 220 220 [l0, l1, l2] [] h Q := Rn_if pg220 rfl rfl rfl
theorem sX1_made_220 : Rn r 220 220 [l0, l1, l2] [] h Q ↔ Rn r 220 222 [l0, l1, l2] [vI 6] h Q := Rn_nx pg220 rfl rfl
theorem sX1_made_222 : Rn r 220 222 [l0, l1, l2] [vI x0] h Q ↔ Rn r 220 223 [l0, l1, some (vI x0)] [] h Q := Rn_nx pg220 rfl rfl
theorem sX1_made_223 : Rn r 220 223 [l0, l1, l2] [] h Q ↔ Rn r 220 271 [l0, l1, l2] [] h Q := Rn_nx pg220 rfl rfl
theorem sX1_made_226 : Rn r 220 226 [l0, some (vR z), l2] [] h Q ↔ Rn r 220 227 [l0, some (vR z), l2] [vR z] h Q := Rn_nx pg220 rfl rfl
theorem sX1_made_227 : Rn r 220 227 [l0, l1, l2] [vR z0] h Q ↔ Rn r 220 230 [l0, l1, l2] [vR (some (hE h 21)), vR z0] h Q := Rn_nx pg220 rfl rfl
theorem sX1_made_230 (hk : 10 ≤ hK h a1) (hk2 : hK h a1 ≤ 11) : Rn r 220 230 [l0, l1, l2] [vR z0, vR (some a1)] h Q ↔ Cl r 125 [vR (some a1), vR z0] h (Kt r 220 233 [l0, l1, l2] [] Q) := Rn_call pg220 rfl (by rcases am_rng2 hk hk2 with q | q <;> simp only [am_exec, am_inv, am_pop, am_lk, q] <;> rfl) pg125 rfl rfl rfl
theorem sX1_made_233 : Rn r 220 233 [l0, l1, l2] [vI x0] h Q ↔ if x0 = 0 then Rn r 220 271 [l0, l1, l2] [] h Q else Rn r 220 236 [l0, l1, l2] [] h Q := Rn_if pg220 rfl rfl rfl
theorem sX1_made_236 : Rn r 220 236 [l0, l1, l2] [] h Q ↔ Rn r 220 238 [l0, l1, l2] [vI 7] h Q := Rn_nx pg220 rfl rfl
theorem sX1_made_238 : Rn r 220 238 [l0, l1, l2] [vI x0] h Q ↔ Rn r 220 239 [l0, l1, some (vI x0)] [] h Q := Rn_nx pg220 rfl rfl
theorem sX1_made_239 : Rn r 220 239 [l0, l1, l2] [] h Q ↔ Rn r 220 271 [l0, l1, l2] [] h Q := Rn_nx pg220 rfl rfl
theorem sX1_made_242 : Rn r 220 242 [l0, some (vR z), l2] [] h Q ↔ Rn r 220 243 [l0, some (vR z), l2] [vR z] h Q := Rn_nx pg220 rfl rfl
theorem sX1_made_243 : Rn r 220 243 [l0, l1, l2] [vR z0] h Q ↔ Rn r 220 246 [l0, l1, l2] [vR (some (hE h 22)), vR z0] h Q := Rn_nx pg220 rfl rfl
theorem sX1_made_246 (hk : 10 ≤ hK h a1) (hk2 : hK h a1 ≤ 11) : Rn r 220 246 [l0, l1, l2] [vR z0, vR (some a1)] h Q ↔ Cl r 125 [vR (some a1), vR z0] h (Kt r 220 249 [l0, l1, l2] [] Q) := Rn_call pg220 rfl (by rcases am_rng2 hk hk2 with q | q <;> simp only [am_exec, am_inv, am_pop, am_lk, q] <;> rfl) pg125 rfl rfl rfl
theorem sX1_made_249 : Rn r 220 249 [l0, l1, l2] [vI x0] h Q ↔ if x0 = 0 then Rn r 220 271 [l0, l1, l2] [] h Q else Rn r 220 252 [l0, l1, l2] [] h Q := Rn_if pg220 rfl rfl rfl
theorem sX1_made_252 : Rn r 220 252 [l0, l1, l2] [] h Q ↔ Rn r 220 254 [l0, l1, l2] [vI 8] h Q := Rn_nx pg220 rfl rfl
theorem sX1_made_254 : Rn r 220 254 [l0, l1, l2] [vI x0] h Q ↔ Rn r 220 255 [l0, l1, some (vI x0)] [] h Q := Rn_nx pg220 rfl rfl
theorem sX1_made_255 : Rn r 220 255 [l0, l1, l2] [] h Q ↔ Rn r 220 271 [l0, l1, l2] [] h Q := Rn_nx pg220 rfl rfl
theorem sX1_made_258 : Rn r 220 258 [l0, some (vR z), l2] [] h Q ↔ Rn r 220 259 [l0, some (vR z), l2] [vR z] h Q := Rn_nx pg220 rfl rfl
theorem sX1_made_259 : Rn r 220 259 [l0, l1, l2] [vR z0] h Q ↔ Rn r 220 262 [l0, l1, l2] [vR (some (hE h 23)), vR z0] h Q := Rn_nx pg220 rfl rfl
theorem sX1_made_262 (hk : 10 ≤ hK h a1) (hk2 : hK h a1 ≤ 11) : Rn r 220 262 [l0, l1, l2] [vR z0, vR (some a1)] h Q ↔ Cl r 125 [vR (some a1), vR z0] h (Kt r 220 265 [l0, l1, l2] [] Q) := Rn_call pg220 rfl (by rcases am_rng2 hk hk2 with q | q <;> simp only [am_exec, am_inv, am_pop, am_lk, q] <;> rfl) pg125 rfl rfl rfl
theorem sX1_made_265 : Rn r 220 265 [l0, l1, l2] [vI x0] h Q ↔ if x0 = 0 then Rn r 220 271 [l0, l1, l2] [] h Q else Rn r 220 268 [l0, l1, l2] [] h Q := Rn_if pg220 rfl rfl rfl
theorem sX1_made_268 : Rn r 220 268 [l0, l1, l2] [] h Q ↔ Rn r 220 270 [l0, l1, l2] [vI 9] h Q := Rn_nx pg220 rfl rfl
theorem sX1_made_270 : Rn r 220 270 [l0, l1, l2] [vI x0] h Q ↔ Rn r 220 271 [l0, l1, some (vI x0)] [] h Q := Rn_nx pg220 rfl rfl
theorem sX1_made_271 : Rn r 220 271 [l0, l1, some (vI x)] [] h Q ↔ Rn r 220 272 [l0, l1, some (vI x)] [vI x] h Q := Rn_nx pg220 rfl rfl
theorem sX1_made_272 : Rn r 220 272 [l0, l1, l2] [vI x0] h Q ↔ Rn r 220 (if x0 = 0 then 328 else if x0 = 1 then 337 else if x0 = 2 then 345 else if x0 = 3 then 353 else if x0 = 4 then 362 else if x0 = 5 then 370 else if x0 = 6 then 379 else if x0 = 7 then 388 else if x0 = 8 then 396 else if x0 = 9 then 406 else 414) [l0, l1, l2] [] h Q := Rn_nx pg220 rfl rfl
theorem sX1_made_328 : Rn r 220 328 [l0, l1, l2] [] h Q ↔ Rn r 220 331 [l0, l1, l2] [vR (some (hN h))] (newC h 30 7) Q := Rn_nx pg220 rfl rfl
theorem sX1_made_331 : Rn r 220 331 [l0, l1, l2] [vR z0] h Q ↔ Rn r 220 332 [l0, l1, l2] [vR z0, vR z0] h Q := Rn_nx pg220 rfl rfl
theorem sX1_made_332 : Rn r 220 332 [l0, l1, l2] [vR z0, vR z1] h Q ↔ Rn r 220 333 [l0, l1, l2] [vI 0, vR z0, vR z1] h Q := Rn_nx pg220 rfl rfl
theorem sX1_made_333 (hk : 0 < hK h a1) (hk2 : hK h a1 < 40) : Rn r 220 333 [l0, l1, l2] [vI x0, vR (some a1), vR z2] h Q ↔ Cl r 272 [vR (some a1), vI x0] h (Kt r 220 336 [l0, l1, l2] [vR z2] Q) := Rn_call pg220 rfl (if_pos ⟨hk, hk2⟩) pg272 rfl rfl rfl
theorem sX1_made_336 : Rn r 220 336 [l0, l1, l2] [vR z0] h Q ↔ Q (Sum.inl (some (vR z0))) h := Rn_end pg220 rfl rfl
theorem sX1_made_337 : Rn r 220 337 [l0, l1, l2] [] h Q ↔ Rn r 220 340 [l0, l1, l2] [vR (some (hN h))] (newC h 31 8) Q := Rn_nx pg220 rfl rfl
theorem sX1_made_340 : Rn r 220 340 [l0, l1, l2] [vR z0] h Q ↔ Rn r 220 341 [l0, l1, l2] [vR z0, vR z0] h Q := Rn_nx pg220 rfl rfl
theorem sX1_made_341 (hk : 0 < hK h a0) (hk2 : hK h a0 < 40) : Rn r 220 341 [l0, l1, l2] [vR (some a0), vR z1] h Q ↔ Cl r 273 [vR (some a0)] h (Kt r 220 344 [l0, l1, l2] [vR z1] Q) := Rn_call pg220 rfl (if_pos ⟨hk, hk2⟩) pg273 rfl rfl rfl
theorem sX1_made_344 : Rn r 220 344 [l0, l1, l2] [vR z0] h Q ↔ Q (Sum.inl (some (vR z0))) h := Rn_end pg220 rfl rfl
theorem sX1_made_345 : Rn r 220 345 [l0, l1, l2] [] h Q ↔ Rn r 220 348 [l0, l1, l2] [vR (some (hN h))] (newC h 32 7) Q := Rn_nx pg220 rfl rfl
theorem sX1_made_348 : Rn r 220 348 [l0, l1, l2] [vR z0] h Q ↔ Rn r 220 349 [l0, l1, l2] [vR z0, vR z0] h Q := Rn_nx pg220 rfl rfl
theorem sX1_made_349 (hk : 0 < hK h a0) (hk2 : hK h a0 < 40) : Rn r 220 349 [l0, l1, l2] [vR (some a0), vR z1] h Q ↔ Cl r 274 [vR (some a0)] h (Kt r 220 352 [l0, l1, l2] [vR z1] Q) := Rn_call pg220 rfl (if_pos ⟨hk, hk2⟩) pg274 rfl rfl rfl
theorem sX1_made_352 : Rn r 220 352 [l0, l1, l2] [vR z0] h Q ↔ Q (Sum.inl (some (vR z0))) h := Rn_end pg220 rfl rfl
theorem sX1_made_353 : Rn r 220 353 [l0, l1, l2] [] h Q ↔ Rn r 220 356 [l0, l1, l2] [vR (some (hN h))] (newC h 30 7) Q := Rn_nx pg220 rfl rfl
theorem sX1_made_356 : Rn r 220 356 [l0, l1, l2] [vR z0] h Q ↔ Rn r 220 357 [l0, l1, l2] [vR z0, vR z0] h Q := Rn_nx pg220 rfl rfl
theorem sX1_made_357 : Rn r 220 357 [l0, l1, l2] [vR z0, vR z1] h Q ↔ Rn r 220 358 [l0, l1, l2] [vI 3, vR z0, vR z1] h Q := Rn_nx pg220 rfl rfl
theorem sX1_made_358 (hk : 0 < hK h a1) (hk2 : hK h a1 < 40) : Rn r 220 358 [l0, l1, l2] [vI x0, vR (some a1), vR z2] h Q ↔ Cl r 272 [vR (some a1), vI x0] h (Kt r 220 361 [l0, l1, l2] [vR z2] Q) := Rn_call pg220 rfl (if_pos ⟨hk, hk2⟩) pg272 rfl rfl rfl
theorem sX1_made_361 : Rn r 220 361 [l0, l1, l2] [vR z0] h Q ↔ Q (Sum.inl (some (vR z0))) h := Rn_end pg220 rfl rfl
theorem sX1_made_362 : Rn r 220 362 [l0, l1, l2] [] h Q ↔ Rn r 220 365 [l0, l1, l2] [vR (some (hN h))] (newC h 33 7) Q := Rn_nx pg220 rfl rfl
theorem sX1_made_365 : Rn r 220 365 [l0, l1, l2] [vR z0] h Q ↔ Rn r 220 366 [l0, l1, l2] [vR z0, vR z0] h Q := Rn_nx pg220 rfl rfl
theorem sX1_made_366 (hk : 0 < hK h a0) (hk2 : hK h a0 < 40) : Rn r 220 366 [l0, l1, l2] [vR (some a0), vR z1] h Q ↔ Cl r 275 [vR (some a0)] h (Kt r 220 369 [l0, l1, l2] [vR z1] Q) := Rn_call pg220 rfl (if_pos ⟨hk, hk2⟩) pg275 rfl rfl rfl
theorem sX1_made_369 : Rn r 220 369 [l0, l1, l2] [vR z0] h Q ↔ Q (Sum.inl (some (vR z0))) h := Rn_end pg220 rfl rfl
theorem sX1_made_370 : Rn r 220 370 [l0, l1, l2] [] h Q ↔ Rn r 220 373 [l0, l1, l2] [vR (some (hN h))] (newC h 34 8) Q := Rn_nx pg220 rfl rfl
theorem sX1_made_373 : Rn r 220 373 [l0, l1, l2] [vR z0] h Q ↔ Rn r 220 374 [l0, l1, l2] [vR z0, vR z0] h Q := Rn_nx pg220 rfl rfl
theorem sX1_made_374 : Rn r 220 374 [l0, l1, l2] [vR z0, vR z1] h Q ↔ Rn r 220 375 [l0, l1, l2] [vI 1, vR z0, vR z1] h Q := Rn_nx pg220 rfl rfl
theorem sX1_made_375 (hk : 0 < hK h a1) (hk2 : hK h a1 < 40) : Rn r 220 375 [l0, l1, l2] [vI x0, vR (some a1), vR z2] h Q ↔ Cl r 276 [vR (some a1), vI x0] h (Kt r 220 378 [l0, l1, l2] [vR z2] Q) := Rn_call pg220 rfl (if_pos ⟨hk, hk2⟩) pg276 rfl rfl rfl
theorem sX1_made_378 : Rn r 220 378 [l0, l1, l2] [vR z0] h Q ↔ Q (Sum.inl (some (vR z0))) h := Rn_end pg220 rfl rfl
theorem sX1_made_379 : Rn r 220 379 [l0, l1, l2] [] h Q ↔ Rn r 220 382 [l0, l1, l2] [vR (some (hN h))] (newC h 34 8) Q := Rn_nx pg220 rfl rfl
theorem sX1_made_382 : Rn r 220 382 [l0, l1, l2] [vR z0] h Q ↔ Rn r 220 383 [l0, l1, l2] [vR z0, vR z0] h Q := Rn_nx pg220 rfl rfl
theorem sX1_made_383 : Rn r 220 383 [l0, l1, l2] [vR z0, vR z1] h Q ↔ Rn r 220 384 [l0, l1, l2] [vI 0, vR z0, vR z1] h Q := Rn_nx pg220 rfl rfl
theorem sX1_made_384 (hk : 0 < hK h a1) (hk2 : hK h a1 < 40) : Rn r 220 384 [l0, l1, l2] [vI x0, vR (some a1), vR z2] h Q ↔ Cl r 276 [vR (some a1), vI x0] h (Kt r 220 387 [l0, l1, l2] [vR z2] Q) := Rn_call pg220 rfl (if_pos ⟨hk, hk2⟩) pg276 rfl rfl rfl
theorem sX1_made_387 : Rn r 220 387 [l0, l1, l2] [vR z0] h Q ↔ Q (Sum.inl (some (vR z0))) h := Rn_end pg220 rfl rfl
theorem sX1_made_388 : Rn r 220 388 [l0, l1, l2] [] h Q ↔ Rn r 220 391 [l0, l1, l2] [vR (some (hN h))] (newC h 35 7) Q := Rn_nx pg220 rfl rfl
theorem sX1_made_391 : Rn r 220 391 [l0, l1, l2] [vR z0] h Q ↔ Rn r 220 392 [l0, l1, l2] [vR z0, vR z0] h Q := Rn_nx pg220 rfl rfl
theorem sX1_made_392 (hk : 0 < hK h a0) (hk2 : hK h a0 < 40) : Rn r 220 392 [l0, l1, l2] [vR (some a0), vR z1] h Q ↔ Cl r 277 [vR (some a0)] h (Kt r 220 395 [l0, l1, l2] [vR z1] Q) := Rn_call pg220 rfl (if_pos ⟨hk, hk2⟩) pg277 rfl rfl rfl
theorem sX1_made_395 : Rn r 220 395 [l0, l1, l2] [vR z0] h Q ↔ Q (Sum.inl (some (vR z0))) h := Rn_end pg220 rfl rfl
theorem sX1_made_396 : Rn r 220 396 [l0, l1, l2] [] h Q ↔ Rn r 220 399 [l0, l1, l2] [vR (some (hN h))] (newC h 30 7) Q := Rn_nx pg220 rfl rfl
theorem sX1_made_399 : Rn r 220 399 [l0, l1, l2] [vR z0] h Q ↔ Rn r 220 400 [l0, l1, l2] [vR z0, vR z0] h Q := Rn_nx pg220 rfl rfl
theorem sX1_made_400 : Rn r 220 400 [l0, l1, l2] [vR z0, vR z1] h Q ↔ Rn r 220 402 [l0, l1, l2] [vI 8, vR z0, vR z1] h Q := Rn_nx pg220 rfl rfl
theorem sX1_made_402 (hk : 0 < hK h a1) (hk2 : hK h a1 < 40) : Rn r 220 402 [l0, l1, l2] [vI x0, vR (some a1), vR z2] h Q ↔ Cl r 272 [vR (some a1), vI x0] h (Kt r 220 405 [l0, l1, l2] [vR z2] Q) := Rn_call pg220 rfl (if_pos ⟨hk, hk2⟩) pg272 rfl rfl rfl
theorem sX1_made_405 : Rn r 220 405 [l0, l1, l2] [vR z0] h Q ↔ Q (Sum.inl (some (vR z0))) h := Rn_end pg220 rfl rfl
theorem sX1_made_406 : Rn r 220 406 [l0, l1, l2] [] h Q ↔ Rn r 220 409 [l0, l1, l2] [vR (some (hN h))] (newC h 36 12) Q := Rn_nx pg220 rfl rfl
theorem sX1_made_409 : Rn r 220 409 [l0, l1, l2] [vR z0] h Q ↔ Rn r 220 410 [l0, l1, l2] [vR z0, vR z0] h Q := Rn_nx pg220 rfl rfl
theorem sX1_made_410 (hk : 0 < hK h a0) (hk2 : hK h a0 < 40) : Rn r 220 410 [l0, l1, l2] [vR (some a0), vR z1] h Q ↔ Cl r 278 [vR (some a0)] h (Kt r 220 413 [l0, l1, l2] [vR z1] Q) := Rn_call pg220 rfl (if_pos ⟨hk, hk2⟩) pg278 rfl rfl rfl
theorem sX1_made_413 : Rn r 220 413 [l0, l1, l2] [vR z0] h Q ↔ Q (Sum.inl (some (vR z0))) h := Rn_end pg220 rfl rfl
theorem sX1_made_414 : Rn r 220 414 [l0, l1, l2] [] h Q ↔ Rn r 220 417 [l0, l1, l2] [vR (some (hN h))] (newC h 37 7) Q := Rn_nx pg220 rfl rfl
theorem sX1_made_417 : Rn r 220 417 [l0, l1, l2] [vR z0] h Q ↔ Rn r 220 418 [l0, l1, l2] [vR z0, vR z0] h Q := Rn_nx pg220 rfl rfl
theorem sX1_made_418 (hk : 0 < hK h a0) (hk2 : hK h a0 < 40) : Rn r 220 418 [l0, l1, l2] [vR (some a0), vR z1] h Q ↔ Cl r 279 [vR (some a0)] h (Kt r 220 421 [l0, l1, l2] [vR z1] Q) := Rn_call pg220 rfl (if_pos ⟨hk, hk2⟩) pg279 rfl rfl rfl
theorem sX1_made_421 : Rn r 220 421 [l0, l1, l2] [vR z0] h Q ↔ Q (Sum.inl (some (vR z0))) h := Rn_end pg220 rfl rfl
/-! 221 ThrowRules$Reader.plain(LThrowRules$Plain;LThrowRules$Around;)V -/
theorem eX1_plain : Cl r 221 [vR z0, vR z1, vR z2] h Q ↔ Rn r 221 0 [some (vR z0), some (vR z1), some (vR z2)] [] h Q := Cl_in pg221 rfl
theorem sX1_plain_0 : Rn r 221 0 [l0, some (vR z), l2] [] h Q ↔ Rn r 221 1 [l0, some (vR z), l2] [vR z] h Q := Rn_nx pg221 rfl rfl
theorem sX1_plain_1 (hk : hK h a0 = 30) : Rn r 221 1 [l0, l1, l2] [vR (some a0)] h Q ↔ Rn r 221 4 [l0, l1, l2] [vI (hI h a0 5)] h Q := Rn_nx pg221 rfl (if_pos ⟨(hk ▸ Nat.le_refl _), (hk ▸ Nat.le_refl _)⟩)
theorem sX1_plain_4 : Rn r 221 4 [l0, l1, l2] [vI x0] h Q ↔ Rn r 221 5 [l0, l1, l2] [vI 3, vI x0] h Q := Rn_nx pg221 rfl rfl
theorem sX1_plain_5 : Rn r 221 5 [l0, l1, l2] [vI x0, vI x1] h Q ↔ if x1 ≠ x0 then Rn r 221 105 [l0, l1, l2] [] h Q else Rn r 221 8 [l0, l1, l2] [] h Q := Rn_if pg221 rfl rfl rfl
theorem sX1_plain_8 : Rn r 221 8 [some (vR z), l1, l2] [] h Q ↔ Rn r 221 9 [some (vR z), l1, l2] [vR z] h Q := Rn_nx pg221 rfl rfl
theorem sX1_plain_9 : Rn r 221 9 [some (vR z), l1, l2] [vR z0] h Q ↔ Rn r 221 10 [some (vR z), l1, l2] [vR z, vR z0] h Q := Rn_nx pg221 rfl rfl
theorem sX1_plain_10 (hk : hK h a0 = 2) : Rn r 221 10 [l0, l1, l2] [vR (some a0), vR z1] h Q ↔ Cl r 126 [vR (some a0)] h (Kt r 221 13 [l0, l1, l2] [vR z1] Q) := Rn_call pg221 rfl (by simp only [am_exec, am_inv, am_pop, am_lk, hk]; rfl) pg126 rfl rfl rfl
theorem sX1_plain_13 : Rn r 221 13 [l0, l1, some (vR z)] [vR z0, vR z1] h Q ↔ Rn r 221 14 [l0, l1, some (vR z)] [vR z, vR z0, vR z1] h Q := Rn_nx pg221 rfl rfl
theorem sX1_plain_14 (hk : hK h a2 = 2) : Rn r 221 14 [l0, l1, l2] [vR z0, vR z1, vR (some a2)] h Q ↔ Cl r 280 [vR (some a2), vR z1, vR z0] h (Kt r 221 17 [l0, l1, l2] [] Q) := Rn_call pg221 rfl (by simp only [am_exec, am_inv, am_pop, am_lk, hk]; rfl) pg280 rfl rfl rfl
theorem sX1_plain_17 : Rn r 221 17 [l0, some (vR z), l2] [] h Q ↔ Rn r 221 18 [l0, some (vR z), l2] [vR z] h Q := Rn_nx pg221 rfl rfl
theorem sX1_plain_18 : Rn r 221 18 [some (vR z), l1, l2] [vR z0] h Q ↔ Rn r 221 19 [some (vR z), l1, l2] [vR z, vR z0] h Q := Rn_nx pg221 rfl rfl
theorem sX1_plain_19 (hk : hK h a0 = 2) : Rn r 221 19 [l0, l1, l2] [vR (some a0), vR z1] h Q ↔ Rn r 221 22 [l0, l1, l2] [vR (hR h a0 15), vR z1] h Q := Rn_nx pg221 rfl (if_pos ⟨(hk ▸ Nat.le_refl _), (hk ▸ Nat.le_refl _)⟩)
theorem sX1_plain_22 (hk : hK h a1 = 30) : Rn r 221 22 [l0, l1, l2] [vR z0, vR (some a1)] h Q ↔ Rn r 221 25 [l0, l1, l2] [] (putR h a1 6 z0) Q := Rn_nx pg221 rfl ((if_pos ⟨(hk ▸ Nat.le_refl _), (hk ▸ Nat.le_refl _)⟩).trans rfl)
theorem sX1_plain_25 : Rn r 221 25 [some (vR z), l1, l2] [] h Q ↔ Rn r 221 26 [some (vR z), l1, l2] [vR z] h Q := Rn_nx pg221 rfl rfl
theorem sX1_plain_26 (hk : hK h a0 = 2) : Rn r 221 26 [l0, l1, l2] [vR (some a0)] h Q ↔ Rn r 221 29 [l0, l1, l2] [vR (hR h a0 15)] h Q := Rn_nx pg221 rfl (if_pos ⟨(hk ▸ Nat.le_refl _), (hk ▸ Nat.le_refl _)⟩)
theorem sX1_plain_29 : Rn r 221 29 [l0, l1, l2] [vR z0] h Q ↔ if z0 ≠ none then Rn r 221 48 [l0, l1, l2] [] h Q else Rn r 221 32 [l0, l1, l2] [] h Q := Rn_if pg221 rfl rfl rfl
theorem sX1_plain_32 : Rn r 221 32 [some (vR z), l1, l2] [] h Q ↔ Rn r 221 33 [some (vR z), l1, l2] [vR z] h Q := Rn_nx pg221 rfl rfl
theorem sX1_plain_33 (hk : hK h a0 = 2) : Rn r 221 33 [l0, l1, l2] [vR (some a0)] h Q ↔ Rn r 221 36 [l0, l1, l2] [vR (hR h a0 7)] h Q := Rn_nx pg221 rfl (if_pos ⟨(hk ▸ Nat.le_refl _), (hk ▸ Nat.le_refl _)⟩)
theorem sX1_plain_36 : Rn r 221 36 [l0, l1, l2] [vR z0] h Q ↔ Rn r 221 37 [l0, l1, l2] [vI 1, vR z0] h Q := Rn_nx pg221 rfl rfl
theorem sX1_plain_37 : Rn r 221 37 [some (vR z), l1, l2] [vI x0, vR z1] h Q ↔ Rn r 221 38 [some (vR z), l1, l2] [vR z, vI x0, vR z1] h Q := Rn_nx pg221 rfl rfl
theorem sX1_plain_38 (hk : hK h a0 = 2) : Rn r 221 38 [l0, l1, l2] [vR (some a0), vI x1, vR z2] h Q ↔ Rn r 221 41 [l0, l1, l2] [vI (hI h a0 14), vI x1, vR z2] h Q := Rn_nx pg221 rfl (if_pos ⟨(hk ▸ Nat.le_refl _), (hk ▸ Nat.le_refl _)⟩)
theorem sX1_plain_41 : Rn r 221 41 [l0, l1, l2] [vI x0, vI x1, vR z2] h Q ↔ Rn r 221 42 [l0, l1, l2] [vI (-1), vI x0, vI x1, vR z2] h Q := Rn_nx pg221 rfl rfl
theorem sX1_plain_42 (hk : hK h a3 = 5) : Rn r 221 42 [l0, l1, l2] [vI x0, vI x1, vI x2, vR (some a3)] h Q ↔ Cl r 130 [vR (some a3), vI x2, vI x1, vI x0] h (Kt r 221 45 [l0, l1, l2] [] Q) := Rn_call pg221 rfl (by simp only [am_exec, am_inv, am_pop, am_lk, hk]; rfl) pg130 rfl rfl rfl
theorem sX1_plain_45 : Rn r 221 45 [l0, l1, l2] [] h Q ↔ Rn r 221 105 [l0, l1, l2] [] h Q := Rn_nx pg221 rfl rfl
theorem sX1_plain_48 : Rn r 221 48 [some (vR z), l1, l2] [] h Q ↔ Rn r 221 49 [some (vR z), l1, l2] [vR z] h Q := Rn_nx pg221 rfl rfl
theorem sX1_plain_49 (hk : hK h a0 = 2) : Rn r 221 49 [l0, l1, l2] [vR (some a0)] h Q ↔ Rn r 221 52 [l0, l1, l2] [vR (hR h a0 15)] h Q := Rn_nx pg221 rfl (if_pos ⟨(hk ▸ Nat.le_refl _), (hk ▸ Nat.le_refl _)⟩)
theorem sX1_plain_52 : Rn r 221 52 [l0, l1, l2] [vR z0] h Q ↔ Rn r 221 53 [l0, l1, l2] [vI 1, vR z0] h Q := Rn_nx pg221 rfl rfl
theorem sX1_plain_53 (hk : hK h a1 = 22) (hf : am_fit 4 x0 = true) : Rn r 221 53 [l0, l1, l2] [vI x0, vR (some a1)] h Q ↔ Rn r 221 56 [l0, l1, l2] [] (putI h a1 4 x0) Q := Rn_nx pg221 rfl ((if_pos ⟨(hk ▸ Nat.le_refl _), (hk ▸ Nat.le_refl _)⟩).trans (if_pos hf))
theorem sX1_plain_56 : Rn r 221 56 [some (vR z), l1, l2] [] h Q ↔ Rn r 221 57 [some (vR z), l1, l2] [vR z] h Q := Rn_nx pg221 rfl rfl
theorem sX1_plain_57 (hk : hK h a0 = 2) : Rn r 221 57 [l0, l1, l2] [vR (some a0)] h Q ↔ Rn r 221 60 [l0, l1, l2] [vR (hR h a0 15)] h Q := Rn_nx pg221 rfl (if_pos ⟨(hk ▸ Nat.le_refl _), (hk ▸ Nat.le_refl _)⟩)
theorem sX1_plain_60 (hk : hK h a0 = 22) : Rn r 221 60 [l0, l1, l2] [vR (some a0)] h Q ↔ Rn r 221 63 [l0, l1, l2] [vR (hR h a0 1)] h Q := Rn_nx pg221 rfl (if_pos ⟨(hk ▸ Nat.le_refl _), (hk ▸ Nat.le_refl _)⟩)
theorem sX1_plain_63 (hk : hK h a0 = 4) : Rn r 221 63 [l0, l1, l2] [vR (some a0)] h Q ↔ Cl r 34 [vR (some a0)] h (Kt r 221 66 [l0, l1, l2] [] Q) := Rn_call pg221 rfl (by simp only [am_exec, am_inv, am_pop, am_lk, hk]; rfl) pg34 rfl rfl rfl
theorem sX1_plain_66 : Rn r 221 66 [l0, l1, l2] [vI x0] h Q ↔ Rn r 221 67 [l0, l1, l2] [vI 1, vI x0] h Q := Rn_nx pg221 rfl rfl
theorem sX1_plain_67 : Rn r 221 67 [l0, l1, l2] [vI x0, vI x1] h Q ↔ if x1 ≤ x0 then Rn r 221 84 [l0, l1, l2] [] h Q else Rn r 221 70 [l0, l1, l2] [] h Q := Rn_if pg221 rfl rfl rfl
theorem sX1_plain_70 : Rn r 221 70 [some (vR z), l1, l2] [] h Q ↔ Rn r 221 71 [some (vR z), l1, l2] [vR z] h Q := Rn_nx pg221 rfl rfl
theorem sX1_plain_71 (hk : hK h a0 = 2) : Rn r 221 71 [l0, l1, l2] [vR (some a0)] h Q ↔ Rn r 221 74 [l0, l1, l2] [vR (hR h a0 7)] h Q := Rn_nx pg221 rfl (if_pos ⟨(hk ▸ Nat.le_refl _), (hk ▸ Nat.le_refl _)⟩)
theorem sX1_plain_74 : Rn r 221 74 [l0, l1, l2] [vR z0] h Q ↔ Rn r 221 76 [l0, l1, l2] [vI 6, vR z0] h Q := Rn_nx pg221 rfl rfl
theorem sX1_plain_76 : Rn r 221 76 [some (vR z), l1, l2] [vI x0, vR z1] h Q ↔ Rn r 221 77 [some (vR z), l1, l2] [vR z, vI x0, vR z1] h Q := Rn_nx pg221 rfl rfl
theorem sX1_plain_77 (hk : hK h a0 = 2) : Rn r 221 77 [l0, l1, l2] [vR (some a0), vI x1, vR z2] h Q ↔ Rn r 221 80 [l0, l1, l2] [vI (hI h a0 14), vI x1, vR z2] h Q := Rn_nx pg221 rfl (if_pos ⟨(hk ▸ Nat.le_refl _), (hk ▸ Nat.le_refl _)⟩)
theorem sX1_plain_80 : Rn r 221 80 [l0, l1, l2] [vI x0, vI x1, vR z2] h Q ↔ Rn r 221 81 [l0, l1, l2] [vI (-1), vI x0, vI x1, vR z2] h Q := Rn_nx pg221 rfl rfl
theorem sX1_plain_81 (hk : hK h a3 = 5) : Rn r 221 81 [l0, l1, l2] [vI x0, vI x1, vI x2, vR (some a3)] h Q ↔ Cl r 130 [vR (some a3), vI x2, vI x1, vI x0] h (Kt r 221 84 [l0, l1, l2] [] Q) := Rn_call pg221 rfl (by simp only [am_exec, am_inv, am_pop, am_lk, hk]; rfl) pg130 rfl rfl rfl
theorem sX1_plain_84 : Rn r 221 84 [some (vR z), l1, l2] [] h Q ↔ Rn r 221 85 [some (vR z), l1, l2] [vR z] h Q := Rn_nx pg221 rfl rfl
theorem sX1_plain_85 (hk : hK h a0 = 2) : Rn r 221 85 [l0, l1, l2] [vR (some a0)] h Q ↔ Rn r 221 88 [l0, l1, l2] [vI (hI h a0 16)] h Q := Rn_nx pg221 rfl (if_pos ⟨(hk ▸ Nat.le_refl _), (hk ▸ Nat.le_refl _)⟩)
theorem sX1_plain_88 : Rn r 221 88 [l0, l1, l2] [vI x0] h Q ↔ if x0 = 0 then Rn r 221 105 [l0, l1, l2] [] h Q else Rn r 221 91 [l0, l1, l2] [] h Q := Rn_if pg221 rfl rfl rfl
theorem sX1_plain_91 : Rn r 221 91 [some (vR z), l1, l2] [] h Q ↔ Rn r 221 92 [some (vR z), l1, l2] [vR z] h Q := Rn_nx pg221 rfl rfl
theorem sX1_plain_92 (hk : hK h a0 = 2) : Rn r 221 92 [l0, l1, l2] [vR (some a0)] h Q ↔ Rn r 221 95 [l0, l1, l2] [vR (hR h a0 7)] h Q := Rn_nx pg221 rfl (if_pos ⟨(hk ▸ Nat.le_refl _), (hk ▸ Nat.le_refl _)⟩)
theorem sX1_plain_95 : Rn r 221 95 [l0, l1, l2] [vR z0] h Q ↔ Rn r 221 97 [l0, l1, l2] [vI 12, vR z0] h Q := Rn_nx pg221 rfl rfl
theorem sX1_plain_97 : Rn r 221 97 [some (vR z), l1, l2] [vI x0, vR z1] h Q ↔ Rn r 221 98 [some (vR z), l1, l2] [vR z, vI x0, vR z1] h Q := Rn_nx pg221 rfl rfl
theorem sX1_plain_98 (hk : hK h a0 = 2) : Rn r 221 98 [l0, l1, l2] [vR (some a0), vI x1, vR z2] h Q ↔ Rn r 221 101 [l0, l1, l2] [vI (hI h a0 14), vI x1, vR z2] h Q := Rn_nx pg221 rfl (if_pos ⟨(hk ▸ Nat.le_refl _), (hk ▸ Nat.le_refl _)⟩)
theorem sX1_plain_101 : Rn r 221 101 [l0, l1, l2] [vI x0, vI x1, vR z2] h Q ↔ Rn r 221 102 [l0, l1, l2] [vI (-1), vI x0, vI x1, vR z2] h Q := Rn_nx pg221 rfl rfl
theorem sX1_plain_102 (hk : hK h a3 = 5) : Rn r 221 102 [l0, l1, l2] [vI x0, vI x1, vI x2, vR (some a3)] h Q ↔ Cl r 130 [vR (some a3), vI x2, vI x1, vI x0] h (Kt r 221 105 [l0, l1, l2] [] Q) := Rn_call pg221 rfl (by simp only [am_exec, am_inv, am_pop, am_lk, hk]; rfl) pg130 rfl rfl rfl
theorem sX1_plain_105 : Rn r 221 105 [some (vR z), l1, l2] [] h Q ↔ Rn r 221 106 [some (vR z), l1, l2] [vR z] h Q := Rn_nx pg221 rfl rfl
theorem sX1_plain_106 : Rn r 221 106 [l0, l1, l2] [vR z0] h Q ↔ Rn r 221 108 [l0, l1, l2] [vI 59, vR z0] h Q := Rn_nx pg221 rfl rfl
theorem sX1_plain_108 (hk : hK h a1 = 2) : Rn r 221 108 [l0, l1, l2] [vI x0, vR (some a1)] h Q ↔ Cl r 128 [vR (some a1), vI x0] h (Kt r 221 111 [l0, l1, l2] [] Q) := Rn_call pg221 rfl (by simp only [am_exec, am_inv, am_pop, am_lk, hk]; rfl) pg128 rfl rfl rfl
theorem sX1_plain_111 : Rn r 221 111 [l0, l1, l2] [] h Q ↔ Q (Sum.inl none) h := Rn_end pg221 rfl rfl
/-! 222 ThrowRules$Reader.call(LThrowRules$Call;LThrowRules$Around;)V -/
theorem eX1_call : Cl r 222 [vR z0, vR z1, vR z2] h Q ↔ Rn r 222 0 [some (vR z0), some (vR z1), some (vR z2), none] [] h Q := Cl_in pg222 rfl
theorem sX1_call_0 : Rn r 222 0 [l0, some (vR z), l2, l3] [] h Q ↔ Rn r 222 1 [l0, some (vR z), l2, l3] [vR z] h Q := Rn_nx pg222 rfl rfl
theorem sX1_call_1 : Rn r 222 1 [some (vR z), l1, l2, l3] [vR z0] h Q ↔ Rn r 222 2 [some (vR z), l1, l2, l3] [vR z, vR z0] h Q := Rn_nx pg222 rfl rfl
theorem sX1_call_2 (hk : hK h a0 = 2) : Rn r 222 2 [l0, l1, l2, l3] [vR (some a0), vR z1] h Q ↔ Cl r 126 [vR (some a0)] h (Kt r 222 5 [l0, l1, l2, l3] [vR z1] Q) := Rn_call pg222 rfl (by simp only [am_exec, am_inv, am_pop, am_lk, hk]; rfl) pg126 rfl rfl rfl
theorem sX1_call_5 (hk : hK h a1 = 31) : Rn r 222 5 [l0, l1, l2, l3] [vR z0, vR (some a1)] h Q ↔ Rn r 222 8 [l0, l1, l2, l3] [] (putR h a1 5 z0) Q := Rn_nx pg222 rfl ((if_pos ⟨(hk ▸ Nat.le_refl _), (hk ▸ Nat.le_refl _)⟩).trans rfl)
theorem sX1_call_8 : Rn r 222 8 [some (vR z), l1, l2, l3] [] h Q ↔ Rn r 222 9 [some (vR z), l1, l2, l3] [vR z] h Q := Rn_nx pg222 rfl rfl
theorem sX1_call_9 (hk : hK h a0 = 2) : Rn r 222 9 [l0, l1, l2, l3] [vR (some a0)] h Q ↔ Rn r 222 12 [l0, l1, l2, l3] [vR (hR h a0 10)] h Q := Rn_nx pg222 rfl (if_pos ⟨(hk ▸ Nat.le_refl _), (hk ▸ Nat.le_refl _)⟩)
theorem sX1_call_12 : Rn r 222 12 [l0, some (vR z), l2, l3] [vR z0] h Q ↔ Rn r 222 13 [l0, some (vR z), l2, l3] [vR z, vR z0] h Q := Rn_nx pg222 rfl rfl
theorem sX1_call_13 (hk : hK h a1 = 4) : Rn r 222 13 [l0, l1, l2, l3] [vR z0, vR (some a1)] h Q ↔ Cl r 119 [vR (some a1), vR z0] h (Kt r 222 16 [l0, l1, l2, l3] [] Q) := Rn_call pg222 rfl (by simp only [am_exec, am_inv, am_pop, am_lk, hk]; rfl) pg119 rfl rfl rfl
theorem sX1_call_16 : Rn r 222 16 [l0, l1, l2, l3] [vI x0] h Q ↔ Rn r 222 17 [l0, l1, l2, l3] [] h Q := Rn_nx pg222 rfl rfl
theorem sX1_call_17 : Rn r 222 17 [some (vR z), l1, l2, l3] [] h Q ↔ Rn r 222 18 [some (vR z), l1, l2, l3] [vR z] h Q := Rn_nx pg222 rfl rfl
theorem sX1_call_18 (hk : hK h a0 = 2) : Rn r 222 18 [l0, l1, l2, l3] [vR (some a0)] h Q ↔ Rn r 222 21 [l0, l1, l2, l3] [vR (hR h a0 11)] h Q := Rn_nx pg222 rfl (if_pos ⟨(hk ▸ Nat.le_refl _), (hk ▸ Nat.le_refl _)⟩)
theorem sX1_call_21 : Rn r 222 21 [some (vR z), l1, l2, l3] [vR z0] h Q ↔ Rn r 222 22 [some (vR z), l1, l2, l3] [vR z, vR z0] h Q := Rn_nx pg222 rfl rfl
theorem sX1_call_22 (hk : hK h a0 = 2) : Rn r 222 22 [l0, l1, l2, l3] [vR (some a0), vR z1] h Q ↔ Rn r 222 25 [l0, l1, l2, l3] [vI (hI h a0 14), vR z1] h Q := Rn_nx pg222 rfl (if_pos ⟨(hk ▸ Nat.le_refl _), (hk ▸ Nat.le_refl _)⟩)
theorem sX1_call_25 : Rn r 222 25 [l0, l1, l2, l3] [vI x0, vR z1] h Q ↔ Cl r 281 [vI x0] h (Kt r 222 28 [l0, l1, l2, l3] [vR z1] Q) := Rn_call pg222 rfl rfl pg281 rfl rfl rfl
theorem sX1_call_28 (hk : hK h a1 = 4) : Rn r 222 28 [l0, l1, l2, l3] [vR z0, vR (some a1)] h Q ↔ Cl r 119 [vR (some a1), vR z0] h (Kt r 222 31 [l0, l1, l2, l3] [] Q) := Rn_call pg222 rfl (by simp only [am_exec, am_inv, am_pop, am_lk, hk]; rfl) pg119 rfl rfl rfl
theorem sX1_call_31 : Rn r 222 31 [l0, l1, l2, l3] [vI x0] h Q ↔ Rn r 222 32 [l0, l1, l2, l3] [] h Q := Rn_nx pg222 rfl rfl
theorem sX1_call_32 : Rn r 222 32 [some (vR z), l1, l2, l3] [] h Q ↔ Rn r 222 33 [some (vR z), l1, l2, l3] [vR z] h Q := Rn_nx pg222 rfl rfl
theorem sX1_call_33 (hk : hK h a0 = 2) : Rn r 222 33 [l0, l1, l2, l3] [vR (some a0)] h Q ↔ Rn r 222 36 [l0, l1, l2, l3] [vI (hI h a0 6)] h Q := Rn_nx pg222 rfl (if_pos ⟨(hk ▸ Nat.le_refl _), (hk ▸ Nat.le_refl _)⟩)
theorem sX1_call_36 : Rn r 222 36 [l0, l1, l2, l3] [vI x0] h Q ↔ Rn r 222 38 [l0, l1, l2, l3] [vI 123, vI x0] h Q := Rn_nx pg222 rfl rfl
theorem sX1_call_38 : Rn r 222 38 [l0, l1, l2, l3] [vI x0, vI x1] h Q ↔ if x1 ≠ x0 then Rn r 222 64 [l0, l1, l2, l3] [] h Q else Rn r 222 41 [l0, l1, l2, l3] [] h Q := Rn_if pg222 rfl rfl rfl
theorem sX1_call_41 : Rn r 222 41 [l0, l1, l2, l3] [] h Q ↔ Rn r 222 44 [l0, l1, l2, l3] [vR (some (hN h))] (newC h 20 5) Q := Rn_nx pg222 rfl rfl
theorem sX1_call_44 : Rn r 222 44 [l0, l1, l2, l3] [vR z0] h Q ↔ Rn r 222 45 [l0, l1, l2, l3] [vR z0, vR z0] h Q := Rn_nx pg222 rfl rfl
theorem sX1_call_45 : Rn r 222 45 [l0, l1, some (vR z), l3] [vR z0, vR z1] h Q ↔ Rn r 222 46 [l0, l1, some (vR z), l3] [vR z, vR z0, vR z1] h Q := Rn_nx pg222 rfl rfl
theorem sX1_call_46 (hk : 0 < hK h a1) (hk2 : hK h a1 < 40) : Rn r 222 46 [l0, l1, l2, l3] [vR z0, vR (some a1), vR z2] h Q ↔ Cl r 133 [vR (some a1), vR z0] h (Kt r 222 49 [l0, l1, l2, l3] [vR z2] Q) := Rn_call pg222 rfl (if_pos ⟨hk, hk2⟩) pg133 rfl rfl rfl
theorem sX1_call_49 : Rn r 222 49 [l0, l1, l2, l3] [vR z0] h Q ↔ Rn r 222 50 [l0, l1, l2, some (vR z0)] [] h Q := Rn_nx pg222 rfl rfl
theorem sX1_call_50 : Rn r 222 50 [l0, l1, l2, some (vR z)] [] h Q ↔ Rn r 222 51 [l0, l1, l2, some (vR z)] [vR z] h Q := Rn_nx pg222 rfl rfl
theorem sX1_call_51 : Rn r 222 51 [l0, l1, l2, l3] [vR z0] h Q ↔ Rn r 222 52 [l0, l1, l2, l3] [vI 1, vR z0] h Q := Rn_nx pg222 rfl rfl
theorem sX1_call_52 (hk : hK h a1 = 20) (hf : am_fit 4 x0 = true) : Rn r 222 52 [l0, l1, l2, l3] [vI x0, vR (some a1)] h Q ↔ Rn r 222 55 [l0, l1, l2, l3] [] (putI h a1 3 x0) Q := Rn_nx pg222 rfl ((if_pos ⟨(hk ▸ Nat.le_refl _), (hk ▸ Nat.le_refl _)⟩).trans (if_pos hf))
theorem sX1_call_55 : Rn r 222 55 [l0, some (vR z), l2, l3] [] h Q ↔ Rn r 222 56 [l0, some (vR z), l2, l3] [vR z] h Q := Rn_nx pg222 rfl rfl
theorem sX1_call_56 : Rn r 222 56 [some (vR z), l1, l2, l3] [vR z0] h Q ↔ Rn r 222 57 [some (vR z), l1, l2, l3] [vR z, vR z0] h Q := Rn_nx pg222 rfl rfl
theorem sX1_call_57 : Rn r 222 57 [l0, l1, l2, some (vR z)] [vR z0, vR z1] h Q ↔ Rn r 222 58 [l0, l1, l2, some (vR z)] [vR z, vR z0, vR z1] h Q := Rn_nx pg222 rfl rfl
theorem sX1_call_58 (hk : hK h a1 = 2) : Rn (r + 1) 222 58 [l0, l1, l2, l3] [vR z0, vR (some a1), vR z2] h Q ↔ Cl r 134 [vR (some a1), vR z0] h (Kt (r + 1) 222 61 [l0, l1, l2, l3] [vR z2] Q) := Rn_call pg222 rfl (by simp only [am_exec, am_inv, am_pop, am_lk, hk]; rfl) pg134 rfl rfl rfl
theorem sX1_call_61 (hk : hK h a1 = 31) : Rn r 222 61 [l0, l1, l2, l3] [vR z0, vR (some a1)] h Q ↔ Rn r 222 64 [l0, l1, l2, l3] [] (putR h a1 7 z0) Q := Rn_nx pg222 rfl ((if_pos ⟨(hk ▸ Nat.le_refl _), (hk ▸ Nat.le_refl _)⟩).trans rfl)
theorem sX1_call_64 : Rn r 222 64 [some (vR z), l1, l2, l3] [] h Q ↔ Rn r 222 65 [some (vR z), l1, l2, l3] [vR z] h Q := Rn_nx pg222 rfl rfl
theorem sX1_call_65 : Rn r 222 65 [l0, l1, l2, l3] [vR z0] h Q ↔ Rn r 222 67 [l0, l1, l2, l3] [vI 59, vR z0] h Q := Rn_nx pg222 rfl rfl
theorem sX1_call_67 (hk : hK h a1 = 2) : Rn r 222 67 [l0, l1, l2, l3] [vI x0, vR (some a1)] h Q ↔ Cl r 128 [vR (some a1), vI x0] h (Kt r 222 70 [l0, l1, l2, l3] [] Q) := Rn_call pg222 rfl (by simp only [am_exec, am_inv, am_pop, am_lk, hk]; rfl) pg128 rfl rfl rfl
theorem sX1_call_70 : Rn r 222 70 [l0, l1, l2, l3] [] h Q ↔ Q (Sum.inl none) h := Rn_end pg222 rfl rfl
/-! 223 ThrowRules$Reader.thrown(LThrowRules$Throw;LThrowRules$Around;)V -/
theorem eX1_thrown : Cl r 223 [vR z0, vR z1, vR z2] h Q ↔ Rn r 223 0 [some (vR z0), some (vR z1), some (vR z2), none] [] h Q := Cl_in pg223 rfl
theorem sX1_thrown_0 : Rn r 223 0 [some (vR z), l1, l2, l3] [] h Q ↔ Rn r 223 1 [some (vR z), l1, l2, l3] [vR z] h Q := Rn_nx pg223 rfl rfl
theorem sX1_thrown_1 (hk : hK h a0 = 2) : Rn r 223 1 [l0, l1, l2, l3] [vR (some a0)] h Q ↔ Cl r 126 [vR (some a0)] h (Kt r 223 4 [l0, l1, l2, l3] [] Q) := Rn_call pg223 rfl (by simp only [am_exec, am_inv, am_pop, am_lk, hk]; rfl) pg126 rfl rfl rfl
theorem sX1_thrown_4 : Rn r 223 4 [l0, l1, l2, l3] [vR z0] h Q ↔ Rn r 223 5 [l0, l1, l2, some (vR z0)] [] h Q := Rn_nx pg223 rfl rfl
theorem sX1_thrown_5 : Rn r 223 5 [some (vR z), l1, l2, l3] [] h Q ↔ Rn r 223 6 [some (vR z), l1, l2, l3] [vR z] h Q := Rn_nx pg223 rfl rfl
theorem sX1_thrown_6 : Rn r 223 6 [l0, l1, l2, some (vR z)] [vR z0] h Q ↔ Rn r 223 7 [l0, l1, l2, some (vR z)] [vR z, vR z0] h Q := Rn_nx pg223 rfl rfl
theorem sX1_thrown_7 : Rn r 223 7 [l0, l1, some (vR z), l3] [vR z0, vR z1] h Q ↔ Rn r 223 8 [l0, l1, some (vR z), l3] [vR z, vR z0, vR z1] h Q := Rn_nx pg223 rfl rfl
theorem sX1_thrown_8 (hk : hK h a2 = 2) : Rn r 223 8 [l0, l1, l2, l3] [vR z0, vR z1, vR (some a2)] h Q ↔ Cl r 280 [vR (some a2), vR z1, vR z0] h (Kt r 223 11 [l0, l1, l2, l3] [] Q) := Rn_call pg223 rfl (by simp only [am_exec, am_inv, am_pop, am_lk, hk]; rfl) pg280 rfl rfl rfl
theorem sX1_thrown_11 : Rn r 223 11 [l0, some (vR z), l2, l3] [] h Q ↔ Rn r 223 12 [l0, some (vR z), l2, l3] [vR z] h Q := Rn_nx pg223 rfl rfl
theorem sX1_thrown_12 : Rn r 223 12 [some (vR z), l1, l2, l3] [vR z0] h Q ↔ Rn r 223 13 [some (vR z), l1, l2, l3] [vR z, vR z0] h Q := Rn_nx pg223 rfl rfl
theorem sX1_thrown_13 (hk : hK h a0 = 2) : Rn r 223 13 [l0, l1, l2, l3] [vR (some a0), vR z1] h Q ↔ Rn r 223 16 [l0, l1, l2, l3] [vR (hR h a0 15), vR z1] h Q := Rn_nx pg223 rfl (if_pos ⟨(hk ▸ Nat.le_refl _), (hk ▸ Nat.le_refl _)⟩)
theorem sX1_thrown_16 (hk : hK h a1 = 32) : Rn r 223 16 [l0, l1, l2, l3] [vR z0, vR (some a1)] h Q ↔ Rn r 223 19 [l0, l1, l2, l3] [] (putR h a1 5 z0) Q := Rn_nx pg223 rfl ((if_pos ⟨(hk ▸ Nat.le_refl _), (hk ▸ Nat.le_refl _)⟩).trans rfl)
theorem sX1_thrown_19 : Rn r 223 19 [some (vR z), l1, l2, l3] [] h Q ↔ Rn r 223 20 [some (vR z), l1, l2, l3] [vR z] h Q := Rn_nx pg223 rfl rfl
theorem sX1_thrown_20 (hk : hK h a0 = 2) : Rn r 223 20 [l0, l1, l2, l3] [vR (some a0)] h Q ↔ Rn r 223 23 [l0, l1, l2, l3] [vR (hR h a0 15)] h Q := Rn_nx pg223 rfl (if_pos ⟨(hk ▸ Nat.le_refl _), (hk ▸ Nat.le_refl _)⟩)
theorem sX1_thrown_23 : Rn r 223 23 [l0, l1, l2, l3] [vR z0] h Q ↔ if z0 ≠ none then Rn r 223 42 [l0, l1, l2, l3] [] h Q else Rn r 223 26 [l0, l1, l2, l3] [] h Q := Rn_if pg223 rfl rfl rfl
theorem sX1_thrown_26 : Rn r 223 26 [l0, some (vR z), l2, l3] [] h Q ↔ Rn r 223 27 [l0, some (vR z), l2, l3] [vR z] h Q := Rn_nx pg223 rfl rfl
theorem sX1_thrown_27 : Rn r 223 27 [some (vR z), l1, l2, l3] [vR z0] h Q ↔ Rn r 223 28 [some (vR z), l1, l2, l3] [vR z, vR z0] h Q := Rn_nx pg223 rfl rfl
theorem sX1_thrown_28 : Rn r 223 28 [l0, l1, l2, some (vR z)] [vR z0, vR z1] h Q ↔ Rn r 223 29 [l0, l1, l2, some (vR z)] [vR z, vR z0, vR z1] h Q := Rn_nx pg223 rfl rfl
theorem sX1_thrown_29 : Rn r 223 29 [some (vR z), l1, l2, l3] [vR z0, vR z1, vR z2] h Q ↔ Rn r 223 30 [some (vR z), l1, l2, l3] [vR z, vR z0, vR z1, vR z2] h Q := Rn_nx pg223 rfl rfl
theorem sX1_thrown_30 (hk : hK h a0 = 2) : Rn r 223 30 [l0, l1, l2, l3] [vR (some a0), vR z1, vR z2, vR z3] h Q ↔ Rn r 223 33 [l0, l1, l2, l3] [vI (hI h a0 14), vR z1, vR z2, vR z3] h Q := Rn_nx pg223 rfl (if_pos ⟨(hk ▸ Nat.le_refl _), (hk ▸ Nat.le_refl _)⟩)
theorem sX1_thrown_33 (hk : hK h a2 = 2) : Rn r 223 33 [l0, l1, l2, l3] [vI x0, vR z1, vR (some a2), vR z3] h Q ↔ Cl r 129 [vR (some a2), vR z1, vI x0] h (Kt r 223 36 [l0, l1, l2, l3] [vR z3] Q) := Rn_call pg223 rfl (by simp only [am_exec, am_inv, am_pop, am_lk, hk]; rfl) pg129 rfl rfl rfl
theorem sX1_thrown_36 (hk : hK h a1 = 32) : Rn r 223 36 [l0, l1, l2, l3] [vR z0, vR (some a1)] h Q ↔ Rn r 223 39 [l0, l1, l2, l3] [] (putR h a1 6 z0) Q := Rn_nx pg223 rfl ((if_pos ⟨(hk ▸ Nat.le_refl _), (hk ▸ Nat.le_refl _)⟩).trans rfl)
theorem sX1_thrown_39 : Rn r 223 39 [l0, l1, l2, l3] [] h Q ↔ Rn r 223 73 [l0, l1, l2, l3] [] h Q := Rn_nx pg223 rfl rfl
theorem sX1_thrown_42 : Rn r 223 42 [some (vR z), l1, l2, l3] [] h Q ↔ Rn r 223 43 [some (vR z), l1, l2, l3] [vR z] h Q := Rn_nx pg223 rfl rfl
theorem sX1_thrown_43 (hk : hK h a0 = 2) : Rn r 223 43 [l0, l1, l2, l3] [vR (some a0)] h Q ↔ Rn r 223 46 [l0, l1, l2, l3] [vI (hI h a0 16)] h Q := Rn_nx pg223 rfl (if_pos ⟨(hk ▸ Nat.le_refl _), (hk ▸ Nat.le_refl _)⟩)
theorem sX1_thrown_46 : Rn r 223 46 [l0, l1, l2, l3] [vI x0] h Q ↔ if x0 = 0 then Rn r 223 73 [l0, l1, l2, l3] [] h Q else Rn r 223 49 [l0, l1, l2, l3] [] h Q := Rn_if pg223 rfl rfl rfl
theorem sX1_thrown_49 : Rn r 223 49 [some (vR z), l1, l2, l3] [] h Q ↔ Rn r 223 50 [some (vR z), l1, l2, l3] [vR z] h Q := Rn_nx pg223 rfl rfl
theorem sX1_thrown_50 (hk : hK h a0 = 2) : Rn r 223 50 [l0, l1, l2, l3] [vR (some a0)] h Q ↔ Rn r 223 53 [l0, l1, l2, l3] [vR (hR h a0 13)] h Q := Rn_nx pg223 rfl (if_pos ⟨(hk ▸ Nat.le_refl _), (hk ▸ Nat.le_refl _)⟩)
theorem sX1_thrown_53 : Rn r 223 53 [l0, some (vR z), l2, l3] [vR z0] h Q ↔ Rn r 223 54 [l0, some (vR z), l2, l3] [vR z, vR z0] h Q := Rn_nx pg223 rfl rfl
theorem sX1_thrown_54 (hk : hK h a1 = 4) : Rn r 223 54 [l0, l1, l2, l3] [vR z0, vR (some a1)] h Q ↔ Cl r 119 [vR (some a1), vR z0] h (Kt r 223 57 [l0, l1, l2, l3] [] Q) := Rn_call pg223 rfl (by simp only [am_exec, am_inv, am_pop, am_lk, hk]; rfl) pg119 rfl rfl rfl
theorem sX1_thrown_57 : Rn r 223 57 [l0, l1, l2, l3] [vI x0] h Q ↔ Rn r 223 58 [l0, l1, l2, l3] [] h Q := Rn_nx pg223 rfl rfl
theorem sX1_thrown_58 : Rn r 223 58 [some (vR z), l1, l2, l3] [] h Q ↔ Rn r 223 59 [some (vR z), l1, l2, l3] [vR z] h Q := Rn_nx pg223 rfl rfl
theorem sX1_thrown_59 (hk : hK h a0 = 2) : Rn r 223 59 [l0, l1, l2, l3] [vR (some a0)] h Q ↔ Rn r 223 62 [l0, l1, l2, l3] [vR (hR h a0 17)] h Q := Rn_nx pg223 rfl (if_pos ⟨(hk ▸ Nat.le_refl _), (hk ▸ Nat.le_refl _)⟩)
theorem sX1_thrown_62 : Rn r 223 62 [some (vR z), l1, l2, l3] [vR z0] h Q ↔ Rn r 223 63 [some (vR z), l1, l2, l3] [vR z, vR z0] h Q := Rn_nx pg223 rfl rfl
theorem sX1_thrown_63 (hk : hK h a0 = 2) : Rn r 223 63 [l0, l1, l2, l3] [vR (some a0), vR z1] h Q ↔ Rn r 223 66 [l0, l1, l2, l3] [vI (hI h a0 14), vR z1] h Q := Rn_nx pg223 rfl (if_pos ⟨(hk ▸ Nat.le_refl _), (hk ▸ Nat.le_refl _)⟩)
theorem sX1_thrown_66 : Rn r 223 66 [l0, l1, l2, l3] [vI x0, vR z1] h Q ↔ Cl r 281 [vI x0] h (Kt r 223 69 [l0, l1, l2, l3] [vR z1] Q) := Rn_call pg223 rfl rfl pg281 rfl rfl rfl
theorem sX1_thrown_69 (hk : hK h a1 = 4) : Rn r 223 69 [l0, l1, l2, l3] [vR z0, vR (some a1)] h Q ↔ Cl r 119 [vR (some a1), vR z0] h (Kt r 223 72 [l0, l1, l2, l3] [] Q) := Rn_call pg223 rfl (by simp only [am_exec, am_inv, am_pop, am_lk, hk]; rfl) pg119 rfl rfl rfl
theorem sX1_thrown_72 : Rn r 223 72 [l0, l1, l2, l3] [vI x0] h Q ↔ Rn r 223 73 [l0, l1, l2, l3] [] h Q := Rn_nx pg223 rfl rfl
theorem sX1_thrown_73 : Rn r 223 73 [some (vR z), l1, l2, l3] [] h Q ↔ Rn r 223 74 [some (vR z), l1, l2, l3] [vR z] h Q := Rn_nx pg223 rfl rfl
theorem sX1_thrown_74 : Rn r 223 74 [l0, l1, l2, l3] [vR z0] h Q ↔ Rn r 223 76 [l0, l1, l2, l3] [vI 59, vR z0] h Q := Rn_nx pg223 rfl rfl
theorem sX1_thrown_76 (hk : hK h a1 = 2) : Rn r 223 76 [l0, l1, l2, l3] [vI x0, vR (some a1)] h Q ↔ Cl r 128 [vR (some a1), vI x0] h (Kt r 223 79 [l0, l1, l2, l3] [] Q) := Rn_call pg223 rfl (by simp only [am_exec, am_inv, am_pop, am_lk, hk]; rfl) pg128 rfl rfl rfl
theorem sX1_thrown_79 : Rn r 223 79 [l0, l1, l2, l3] [] h Q ↔ Q (Sum.inl none) h := Rn_end pg223 rfl rfl
/-! 224 ThrowRules$Reader.leave(LThrowRules$Break;LThrowRules$Around;)V -/
theorem eX1_leave : Cl r 224 [vR z0, vR z1, vR z2] h Q ↔ Rn r 224 0 [some (vR z0), some (vR z1), some (vR z2), none] [] h Q := Cl_in pg224 rfl
theorem sX1_leave_0 : Rn r 224 0 [l0, l1, some (vR z), l3] [] h Q ↔ Rn r 224 1 [l0, l1, some (vR z), l3] [vR z] h Q := Rn_nx pg224 rfl rfl
theorem sX1_leave_1 : Rn r 224 1 [l0, l1, l2, l3] [vR z0] h Q ↔ Rn r 224 2 [l0, l1, l2, some (vR z0)] [] h Q := Rn_nx pg224 rfl rfl
theorem sX1_leave_2 : Rn r 224 2 [l0, l1, l2, some (vR z)] [] h Q ↔ Rn r 224 3 [l0, l1, l2, some (vR z)] [vR z] h Q := Rn_nx pg224 rfl rfl
theorem sX1_leave_3 : Rn r 224 3 [l0, l1, l2, l3] [vR z0] h Q ↔ if z0 = none then Rn r 224 55 [l0, l1, l2, l3] [] h Q else Rn r 224 6 [l0, l1, l2, l3] [] h Q := Rn_if pg224 rfl rfl rfl
theorem sX1_leave_6 : Rn r 224 6 [l0, some (vR z), l2, l3] [] h Q ↔ Rn r 224 7 [l0, some (vR z), l2, l3] [vR z] h Q := Rn_nx pg224 rfl rfl
theorem sX1_leave_7 (hk : hK h a0 = 35) : Rn r 224 7 [l0, l1, l2, l3] [vR (some a0)] h Q ↔ Rn r 224 10 [l0, l1, l2, l3] [vR (hR h a0 5)] h Q := Rn_nx pg224 rfl (if_pos ⟨(hk ▸ Nat.le_refl _), (hk ▸ Nat.le_refl _)⟩)
theorem sX1_leave_10 : Rn r 224 10 [l0, l1, l2, l3] [vR z0] h Q ↔ if z0 ≠ none then Rn r 224 55 [l0, l1, l2, l3] [] h Q else Rn r 224 13 [l0, l1, l2, l3] [] h Q := Rn_if pg224 rfl rfl rfl
theorem sX1_leave_13 : Rn r 224 13 [l0, l1, l2, some (vR z)] [] h Q ↔ Rn r 224 14 [l0, l1, l2, some (vR z)] [vR z] h Q := Rn_nx pg224 rfl rfl
theorem sX1_leave_14 (hk : hK h a0 = 20) : Rn r 224 14 [l0, l1, l2, l3] [vR (some a0)] h Q ↔ Rn r 224 17 [l0, l1, l2, l3] [vI (hI h a0 3)] h Q := Rn_nx pg224 rfl (if_pos ⟨(hk ▸ Nat.le_refl _), (hk ▸ Nat.le_refl _)⟩)
theorem sX1_leave_17 : Rn r 224 17 [l0, l1, l2, l3] [vI x0] h Q ↔ if x0 ≠ 0 then Rn r 224 55 [l0, l1, l2, l3] [] h Q else Rn r 224 20 [l0, l1, l2, l3] [] h Q := Rn_if pg224 rfl rfl rfl
theorem sX1_leave_20 : Rn r 224 20 [l0, l1, l2, some (vR z)] [] h Q ↔ Rn r 224 21 [l0, l1, l2, some (vR z)] [vR z] h Q := Rn_nx pg224 rfl rfl
theorem sX1_leave_21 (hk : hK h a0 = 20) : Rn r 224 21 [l0, l1, l2, l3] [vR (some a0)] h Q ↔ Rn r 224 24 [l0, l1, l2, l3] [vR (hR h a0 4)] h Q := Rn_nx pg224 rfl (if_pos ⟨(hk ▸ Nat.le_refl _), (hk ▸ Nat.le_refl _)⟩)
theorem sX1_leave_24 : Rn r 224 24 [l0, l1, l2, l3] [vR z0] h Q ↔ if z0 = none then Rn r 224 39 [l0, l1, l2, l3] [] h Q else Rn r 224 27 [l0, l1, l2, l3] [] h Q := Rn_if pg224 rfl rfl rfl
theorem sX1_leave_27 : Rn r 224 27 [l0, some (vR z), l2, l3] [] h Q ↔ Rn r 224 28 [l0, some (vR z), l2, l3] [vR z] h Q := Rn_nx pg224 rfl rfl
theorem sX1_leave_28 (hk : hK h a0 = 35) : Rn r 224 28 [l0, l1, l2, l3] [vR (some a0)] h Q ↔ Rn r 224 31 [l0, l1, l2, l3] [vR (hR h a0 6)] h Q := Rn_nx pg224 rfl (if_pos ⟨(hk ▸ Nat.le_refl _), (hk ▸ Nat.le_refl _)⟩)
theorem sX1_leave_31 : Rn r 224 31 [l0, l1, l2, some (vR z)] [vR z0] h Q ↔ Rn r 224 32 [l0, l1, l2, some (vR z)] [vR z, vR z0] h Q := Rn_nx pg224 rfl rfl
theorem sX1_leave_32 (hk : hK h a0 = 20) : Rn r 224 32 [l0, l1, l2, l3] [vR (some a0), vR z1] h Q ↔ Rn r 224 35 [l0, l1, l2, l3] [vR (hR h a0 4), vR z1] h Q := Rn_nx pg224 rfl (if_pos ⟨(hk ▸ Nat.le_refl _), (hk ▸ Nat.le_refl _)⟩)
theorem sX1_leave_35 (hk : hK h a1 = 4) : Rn r 224 35 [l0, l1, l2, l3] [vR z0, vR (some a1)] h Q ↔ Cl r 119 [vR (some a1), vR z0] h (Kt r 224 38 [l0, l1, l2, l3] [] Q) := Rn_call pg224 rfl (by simp only [am_exec, am_inv, am_pop, am_lk, hk]; rfl) pg119 rfl rfl rfl
theorem sX1_leave_38 : Rn r 224 38 [l0, l1, l2, l3] [vI x0] h Q ↔ Rn r 224 39 [l0, l1, l2, l3] [] h Q := Rn_nx pg224 rfl rfl
theorem sX1_leave_39 : Rn r 224 39 [l0, some (vR z), l2, l3] [] h Q ↔ Rn r 224 40 [l0, some (vR z), l2, l3] [vR z] h Q := Rn_nx pg224 rfl rfl
theorem sX1_leave_40 : Rn r 224 40 [l0, l1, l2, some (vR z)] [vR z0] h Q ↔ Rn r 224 41 [l0, l1, l2, some (vR z)] [vR z, vR z0] h Q := Rn_nx pg224 rfl rfl
theorem sX1_leave_41 (hk : hK h a0 = 20) : Rn r 224 41 [l0, l1, l2, l3] [vR (some a0), vR z1] h Q ↔ Rn r 224 44 [l0, l1, l2, l3] [vR (hR h a0 1), vR z1] h Q := Rn_nx pg224 rfl (if_pos ⟨(hk ▸ Nat.le_refl _), (hk ▸ Nat.le_refl _)⟩)
theorem sX1_leave_44 (hk : hK h a1 = 35) : Rn r 224 44 [l0, l1, l2, l3] [vR z0, vR (some a1)] h Q ↔ Rn r 224 47 [l0, l1, l2, l3] [] (putR h a1 5 z0) Q := Rn_nx pg224 rfl ((if_pos ⟨(hk ▸ Nat.le_refl _), (hk ▸ Nat.le_refl _)⟩).trans rfl)
theorem sX1_leave_47 : Rn r 224 47 [l0, l1, l2, some (vR z)] [] h Q ↔ Rn r 224 48 [l0, l1, l2, some (vR z)] [vR z] h Q := Rn_nx pg224 rfl rfl
theorem sX1_leave_48 (hk : hK h a0 = 20) : Rn r 224 48 [l0, l1, l2, l3] [vR (some a0)] h Q ↔ Rn r 224 51 [l0, l1, l2, l3] [vR (hR h a0 0)] h Q := Rn_nx pg224 rfl (if_pos ⟨(hk ▸ Nat.le_refl _), (hk ▸ Nat.le_refl _)⟩)
theorem sX1_leave_51 : Rn r 224 51 [l0, l1, l2, l3] [vR z0] h Q ↔ Rn r 224 52 [l0, l1, l2, some (vR z0)] [] h Q := Rn_nx pg224 rfl rfl
theorem sX1_leave_52 : Rn r 224 52 [l0, l1, l2, l3] [] h Q ↔ Rn r 224 2 [l0, l1, l2, l3] [] h Q := Rn_nx pg224 rfl rfl
theorem sX1_leave_55 : Rn r 224 55 [l0, some (vR z), l2, l3] [] h Q ↔ Rn r 224 56 [l0, some (vR z), l2, l3] [vR z] h Q := Rn_nx pg224 rfl rfl
theorem sX1_leave_56 (hk : hK h a0 = 35) : Rn r 224 56 [l0, l1, l2, l3] [vR (some a0)] h Q ↔ Rn r 224 59 [l0, l1, l2, l3] [vR (hR h a0 5)] h Q := Rn_nx pg224 rfl (if_pos ⟨(hk ▸ Nat.le_refl _), (hk ▸ Nat.le_refl _)⟩)
theorem sX1_leave_59 : Rn r 224 59 [l0, l1, l2, l3] [vR z0] h Q ↔ if z0 = none then Rn r 224 74 [l0, l1, l2, l3] [] h Q else Rn r 224 62 [l0, l1, l2, l3] [] h Q := Rn_if pg224 rfl rfl rfl
theorem sX1_leave_62 : Rn r 224 62 [l0, some (vR z), l2, l3] [] h Q ↔ Rn r 224 63 [l0, some (vR z), l2, l3] [vR z] h Q := Rn_nx pg224 rfl rfl
theorem sX1_leave_63 (hk : hK h a0 = 35) : Rn r 224 63 [l0, l1, l2, l3] [vR (some a0)] h Q ↔ Rn r 224 66 [l0, l1, l2, l3] [vR (hR h a0 5)] h Q := Rn_nx pg224 rfl (if_pos ⟨(hk ▸ Nat.le_refl _), (hk ▸ Nat.le_refl _)⟩)
theorem sX1_leave_66 (hk : hK h a0 = 34) : Rn r 224 66 [l0, l1, l2, l3] [vR (some a0)] h Q ↔ Rn r 224 69 [l0, l1, l2, l3] [vR (hR h a0 7)] h Q := Rn_nx pg224 rfl (if_pos ⟨(hk ▸ Nat.le_refl _), (hk ▸ Nat.le_refl _)⟩)
theorem sX1_leave_69 : Rn r 224 69 [l0, some (vR z), l2, l3] [vR z0] h Q ↔ Rn r 224 70 [l0, some (vR z), l2, l3] [vR z, vR z0] h Q := Rn_nx pg224 rfl rfl
theorem sX1_leave_70 (hk : hK h a1 = 4) : Rn r 224 70 [l0, l1, l2, l3] [vR z0, vR (some a1)] h Q ↔ Cl r 119 [vR (some a1), vR z0] h (Kt r 224 73 [l0, l1, l2, l3] [] Q) := Rn_call pg224 rfl (by simp only [am_exec, am_inv, am_pop, am_lk, hk]; rfl) pg119 rfl rfl rfl
theorem sX1_leave_73 : Rn r 224 73 [l0, l1, l2, l3] [vI x0] h Q ↔ Rn r 224 74 [l0, l1, l2, l3] [] h Q := Rn_nx pg224 rfl rfl
theorem sX1_leave_74 : Rn r 224 74 [l0, l1, l2, l3] [] h Q ↔ Q (Sum.inl none) h := Rn_end pg224 rfl rfl
/-! 225 ThrowRules$Reader.tried(LThrowRules$Try;LThrowRules$Around;)V -/
theorem eX1_tried : Cl r 225 [vR z0, vR z1, vR z2] h Q ↔ Rn r 225 0 [some (vR z0), some (vR z1), some (vR z2), none] [] h Q := Cl_in pg225 rfl
theorem sX1_tried_0 : Rn r 225 0 [some (vR z), l1, l2, l3] [] h Q ↔ Rn r 225 1 [some (vR z), l1, l2, l3] [vR z] h Q := Rn_nx pg225 rfl rfl
theorem sX1_tried_1 (hk : hK h a0 = 2) : Rn r 225 1 [l0, l1, l2, l3] [vR (some a0)] h Q ↔ Rn r 225 4 [l0, l1, l2, l3] [vR (hR h a0 12)] h Q := Rn_nx pg225 rfl (if_pos ⟨(hk ▸ Nat.le_refl _), (hk ▸ Nat.le_refl _)⟩)
theorem sX1_tried_4 : Rn r 225 4 [l0, some (vR z), l2, l3] [vR z0] h Q ↔ Rn r 225 5 [l0, some (vR z), l2, l3] [vR z, vR z0] h Q := Rn_nx pg225 rfl rfl
theorem sX1_tried_5 (hk : hK h a1 = 4) : Rn r 225 5 [l0, l1, l2, l3] [vR z0, vR (some a1)] h Q ↔ Cl r 119 [vR (some a1), vR z0] h (Kt r 225 8 [l0, l1, l2, l3] [] Q) := Rn_call pg225 rfl (by simp only [am_exec, am_inv, am_pop, am_lk, hk]; rfl) pg119 rfl rfl rfl
theorem sX1_tried_8 : Rn r 225 8 [l0, l1, l2, l3] [vI x0] h Q ↔ Rn r 225 9 [l0, l1, l2, l3] [] h Q := Rn_nx pg225 rfl rfl
theorem sX1_tried_9 : Rn r 225 9 [some (vR z), l1, l2, l3] [] h Q ↔ Rn r 225 10 [some (vR z), l1, l2, l3] [vR z] h Q := Rn_nx pg225 rfl rfl
theorem sX1_tried_10 (hk : hK h a0 = 2) : Rn r 225 10 [l0, l1, l2, l3] [vR (some a0)] h Q ↔ Rn r 225 13 [l0, l1, l2, l3] [vI (hI h a0 6)] h Q := Rn_nx pg225 rfl (if_pos ⟨(hk ▸ Nat.le_refl _), (hk ▸ Nat.le_refl _)⟩)
theorem sX1_tried_13 : Rn r 225 13 [l0, l1, l2, l3] [vI x0] h Q ↔ Rn r 225 15 [l0, l1, l2, l3] [vI 40, vI x0] h Q := Rn_nx pg225 rfl rfl
theorem sX1_tried_15 : Rn r 225 15 [l0, l1, l2, l3] [vI x0, vI x1] h Q ↔ if x1 ≠ x0 then Rn r 225 84 [l0, l1, l2, l3] [] h Q else Rn r 225 18 [l0, l1, l2, l3] [] h Q := Rn_if pg225 rfl rfl rfl
theorem sX1_tried_18 : Rn r 225 18 [some (vR z), l1, l2, l3] [] h Q ↔ Rn r 225 19 [some (vR z), l1, l2, l3] [vR z] h Q := Rn_nx pg225 rfl rfl
theorem sX1_tried_19 (hk : hK h a0 = 2) : Rn r 225 19 [l0, l1, l2, l3] [vR (some a0)] h Q ↔ Cl r 80 [vR (some a0)] h (Kt r 225 22 [l0, l1, l2, l3] [] Q) := Rn_call pg225 rfl (by simp only [am_exec, am_inv, am_pop, am_lk, hk]; rfl) pg80 rfl rfl rfl
theorem sX1_tried_22 : Rn r 225 22 [some (vR z), l1, l2, l3] [] h Q ↔ Rn r 225 23 [some (vR z), l1, l2, l3] [vR z] h Q := Rn_nx pg225 rfl rfl
theorem sX1_tried_23 : Rn r 225 23 [l0, some (vR z), l2, l3] [vR z0] h Q ↔ Rn r 225 24 [l0, some (vR z), l2, l3] [vR z, vR z0] h Q := Rn_nx pg225 rfl rfl
theorem sX1_tried_24 (hk : hK h a0 = 36) : Rn r 225 24 [l0, l1, l2, l3] [vR (some a0), vR z1] h Q ↔ Rn r 225 27 [l0, l1, l2, l3] [vR (hR h a0 5), vR z1] h Q := Rn_nx pg225 rfl (if_pos ⟨(hk ▸ Nat.le_refl _), (hk ▸ Nat.le_refl _)⟩)
theorem sX1_tried_27 (hk : hK h a0 = 4) : Rn r 225 27 [l0, l1, l2, l3] [vR (some a0), vR z1] h Q ↔ Cl r 34 [vR (some a0)] h (Kt r 225 30 [l0, l1, l2, l3] [vR z1] Q) := Rn_call pg225 rfl (by simp only [am_exec, am_inv, am_pop, am_lk, hk]; rfl) pg34 rfl rfl rfl
theorem sX1_tried_30 : Rn r 225 30 [l0, l1, l2, l3] [vI x0, vR z1] h Q ↔ Rn r 225 31 [l0, l1, l2, l3] [vI 4, vI x0, vR z1] h Q := Rn_nx pg225 rfl rfl
theorem sX1_tried_31 : Rn r 225 31 [l0, l1, l2, l3] [vI x0, vI x1, vR z2] h Q ↔ if x0 ≤ x1 then Rn r 225 38 [l0, l1, l2, l3] [vR z2] h Q else Rn r 225 34 [l0, l1, l2, l3] [vR z2] h Q := Rn_if pg225 rfl rfl rfl
theorem sX1_tried_34 : Rn r 225 34 [l0, l1, l2, l3] [vR z0] h Q ↔ Rn r 225 35 [l0, l1, l2, l3] [vI 1, vR z0] h Q := Rn_nx pg225 rfl rfl
theorem sX1_tried_35 : Rn r 225 35 [l0, l1, l2, l3] [vI x0, vR z1] h Q ↔ Rn r 225 39 [l0, l1, l2, l3] [vI x0, vR z1] h Q := Rn_nx pg225 rfl rfl
theorem sX1_tried_38 : Rn r 225 38 [l0, l1, l2, l3] [vR z0] h Q ↔ Rn r 225 39 [l0, l1, l2, l3] [vI 0, vR z0] h Q := Rn_nx pg225 rfl rfl
theorem sX1_tried_39 (hk : hK h a1 = 2) : Rn r 225 39 [l0, l1, l2, l3] [vI x0, vR (some a1)] h Q ↔ Cl r 83 [vR (some a1), vI x0] h (Kt r 225 42 [l0, l1, l2, l3] [] Q) := Rn_call pg225 rfl (by simp only [am_exec, am_inv, am_pop, am_lk, hk]; rfl) pg83 rfl rfl rfl
theorem sX1_tried_42 : Rn r 225 42 [l0, some (vR z), l2, l3] [] h Q ↔ Rn r 225 43 [l0, some (vR z), l2, l3] [vR z] h Q := Rn_nx pg225 rfl rfl
theorem sX1_tried_43 (hk : hK h a0 = 36) : Rn r 225 43 [l0, l1, l2, l3] [vR (some a0)] h Q ↔ Rn r 225 46 [l0, l1, l2, l3] [vR (hR h a0 5)] h Q := Rn_nx pg225 rfl (if_pos ⟨(hk ▸ Nat.le_refl _), (hk ▸ Nat.le_refl _)⟩)
theorem sX1_tried_46 : Rn r 225 46 [some (vR z), l1, l2, l3] [vR z0] h Q ↔ Rn r 225 47 [some (vR z), l1, l2, l3] [vR z, vR z0] h Q := Rn_nx pg225 rfl rfl
theorem sX1_tried_47 (hk : hK h a0 = 2) : Rn r 225 47 [l0, l1, l2, l3] [vR (some a0), vR z1] h Q ↔ Cl r 126 [vR (some a0)] h (Kt r 225 50 [l0, l1, l2, l3] [vR z1] Q) := Rn_call pg225 rfl (by simp only [am_exec, am_inv, am_pop, am_lk, hk]; rfl) pg126 rfl rfl rfl
theorem sX1_tried_50 (hk : hK h a1 = 4) : Rn r 225 50 [l0, l1, l2, l3] [vR z0, vR (some a1)] h Q ↔ Cl r 119 [vR (some a1), vR z0] h (Kt r 225 53 [l0, l1, l2, l3] [] Q) := Rn_call pg225 rfl (by simp only [am_exec, am_inv, am_pop, am_lk, hk]; rfl) pg119 rfl rfl rfl
theorem sX1_tried_53 : Rn r 225 53 [l0, l1, l2, l3] [vI x0] h Q ↔ Rn r 225 54 [l0, l1, l2, l3] [] h Q := Rn_nx pg225 rfl rfl
theorem sX1_tried_54 : Rn r 225 54 [l0, some (vR z), l2, l3] [] h Q ↔ Rn r 225 55 [l0, some (vR z), l2, l3] [vR z] h Q := Rn_nx pg225 rfl rfl
theorem sX1_tried_55 (hk : hK h a0 = 36) : Rn r 225 55 [l0, l1, l2, l3] [vR (some a0)] h Q ↔ Rn r 225 58 [l0, l1, l2, l3] [vR (hR h a0 6)] h Q := Rn_nx pg225 rfl (if_pos ⟨(hk ▸ Nat.le_refl _), (hk ▸ Nat.le_refl _)⟩)
theorem sX1_tried_58 : Rn r 225 58 [some (vR z), l1, l2, l3] [vR z0] h Q ↔ Rn r 225 59 [some (vR z), l1, l2, l3] [vR z, vR z0] h Q := Rn_nx pg225 rfl rfl
theorem sX1_tried_59 (hk : hK h a0 = 2) : Rn r 225 59 [l0, l1, l2, l3] [vR (some a0), vR z1] h Q ↔ Rn r 225 62 [l0, l1, l2, l3] [vI (hI h a0 14), vR z1] h Q := Rn_nx pg225 rfl (if_pos ⟨(hk ▸ Nat.le_refl _), (hk ▸ Nat.le_refl _)⟩)
theorem sX1_tried_62 : Rn r 225 62 [l0, l1, l2, l3] [vI x0, vR z1] h Q ↔ Cl r 281 [vI x0] h (Kt r 225 65 [l0, l1, l2, l3] [vR z1] Q) := Rn_call pg225 rfl rfl pg281 rfl rfl rfl
theorem sX1_tried_65 (hk : hK h a1 = 4) : Rn r 225 65 [l0, l1, l2, l3] [vR z0, vR (some a1)] h Q ↔ Cl r 119 [vR (some a1), vR z0] h (Kt r 225 68 [l0, l1, l2, l3] [] Q) := Rn_call pg225 rfl (by simp only [am_exec, am_inv, am_pop, am_lk, hk]; rfl) pg119 rfl rfl rfl
theorem sX1_tried_68 : Rn r 225 68 [l0, l1, l2, l3] [vI x0] h Q ↔ Rn r 225 69 [l0, l1, l2, l3] [] h Q := Rn_nx pg225 rfl rfl
theorem sX1_tried_69 : Rn r 225 69 [some (vR z), l1, l2, l3] [] h Q ↔ Rn r 225 70 [some (vR z), l1, l2, l3] [vR z] h Q := Rn_nx pg225 rfl rfl
theorem sX1_tried_70 (hk : hK h a0 = 2) : Rn r 225 70 [l0, l1, l2, l3] [vR (some a0)] h Q ↔ Rn r 225 73 [l0, l1, l2, l3] [vI (hI h a0 6)] h Q := Rn_nx pg225 rfl (if_pos ⟨(hk ▸ Nat.le_refl _), (hk ▸ Nat.le_refl _)⟩)
theorem sX1_tried_73 : Rn r 225 73 [l0, l1, l2, l3] [vI x0] h Q ↔ Rn r 225 75 [l0, l1, l2, l3] [vI 44, vI x0] h Q := Rn_nx pg225 rfl rfl
theorem sX1_tried_75 : Rn r 225 75 [l0, l1, l2, l3] [vI x0, vI x1] h Q ↔ if x1 = x0 then Rn r 225 18 [l0, l1, l2, l3] [] h Q else Rn r 225 78 [l0, l1, l2, l3] [] h Q := Rn_if pg225 rfl rfl rfl
theorem sX1_tried_78 : Rn r 225 78 [some (vR z), l1, l2, l3] [] h Q ↔ Rn r 225 79 [some (vR z), l1, l2, l3] [vR z] h Q := Rn_nx pg225 rfl rfl
theorem sX1_tried_79 : Rn r 225 79 [l0, l1, l2, l3] [vR z0] h Q ↔ Rn r 225 81 [l0, l1, l2, l3] [vI 41, vR z0] h Q := Rn_nx pg225 rfl rfl
theorem sX1_tried_81 (hk : hK h a1 = 2) : Rn r 225 81 [l0, l1, l2, l3] [vI x0, vR (some a1)] h Q ↔ Cl r 128 [vR (some a1), vI x0] h (Kt r 225 84 [l0, l1, l2, l3] [] Q) := Rn_call pg225 rfl (by simp only [am_exec, am_inv, am_pop, am_lk, hk]; rfl) pg128 rfl rfl rfl
theorem sX1_tried_84 : Rn r 225 84 [l0, l1, l2, l3] [] h Q ↔ Rn r 225 87 [l0, l1, l2, l3] [vR (some (hN h))] (newC h 20 5) Q := Rn_nx pg225 rfl rfl
theorem sX1_tried_87 : Rn r 225 87 [l0, l1, l2, l3] [vR z0] h Q ↔ Rn r 225 88 [l0, l1, l2, l3] [vR z0, vR z0] h Q := Rn_nx pg225 rfl rfl
theorem sX1_tried_88 : Rn r 225 88 [l0, l1, some (vR z), l3] [vR z0, vR z1] h Q ↔ Rn r 225 89 [l0, l1, some (vR z), l3] [vR z, vR z0, vR z1] h Q := Rn_nx pg225 rfl rfl
theorem sX1_tried_89 (hk : 0 < hK h a1) (hk2 : hK h a1 < 40) : Rn r 225 89 [l0, l1, l2, l3] [vR z0, vR (some a1), vR z2] h Q ↔ Cl r 133 [vR (some a1), vR z0] h (Kt r 225 92 [l0, l1, l2, l3] [vR z2] Q) := Rn_call pg225 rfl (if_pos ⟨hk, hk2⟩) pg133 rfl rfl rfl
theorem sX1_tried_92 : Rn r 225 92 [l0, l1, l2, l3] [vR z0] h Q ↔ Rn r 225 93 [l0, l1, l2, some (vR z0)] [] h Q := Rn_nx pg225 rfl rfl
theorem sX1_tried_93 : Rn r 225 93 [l0, l1, l2, some (vR z)] [] h Q ↔ Rn r 225 94 [l0, l1, l2, some (vR z)] [vR z] h Q := Rn_nx pg225 rfl rfl
theorem sX1_tried_94 : Rn r 225 94 [l0, some (vR z), l2, l3] [vR z0] h Q ↔ Rn r 225 95 [l0, some (vR z), l2, l3] [vR z, vR z0] h Q := Rn_nx pg225 rfl rfl
theorem sX1_tried_95 (hk : hK h a1 = 20) : Rn r 225 95 [l0, l1, l2, l3] [vR z0, vR (some a1)] h Q ↔ Rn r 225 98 [l0, l1, l2, l3] [] (putR h a1 4 z0) Q := Rn_nx pg225 rfl ((if_pos ⟨(hk ▸ Nat.le_refl _), (hk ▸ Nat.le_refl _)⟩).trans rfl)
theorem sX1_tried_98 : Rn r 225 98 [l0, some (vR z), l2, l3] [] h Q ↔ Rn r 225 99 [l0, some (vR z), l2, l3] [vR z] h Q := Rn_nx pg225 rfl rfl
theorem sX1_tried_99 : Rn r 225 99 [some (vR z), l1, l2, l3] [vR z0] h Q ↔ Rn r 225 100 [some (vR z), l1, l2, l3] [vR z, vR z0] h Q := Rn_nx pg225 rfl rfl
theorem sX1_tried_100 : Rn r 225 100 [l0, l1, l2, some (vR z)] [vR z0, vR z1] h Q ↔ Rn r 225 101 [l0, l1, l2, some (vR z)] [vR z, vR z0, vR z1] h Q := Rn_nx pg225 rfl rfl
theorem sX1_tried_101 (hk : hK h a1 = 2) : Rn (r + 1) 225 101 [l0, l1, l2, l3] [vR z0, vR (some a1), vR z2] h Q ↔ Cl r 134 [vR (some a1), vR z0] h (Kt (r + 1) 225 104 [l0, l1, l2, l3] [vR z2] Q) := Rn_call pg225 rfl (by simp only [am_exec, am_inv, am_pop, am_lk, hk]; rfl) pg134 rfl rfl rfl
theorem sX1_tried_104 (hk : hK h a1 = 36) : Rn r 225 104 [l0, l1, l2, l3] [vR z0, vR (some a1)] h Q ↔ Rn r 225 107 [l0, l1, l2, l3] [] (putR h a1 8 z0) Q := Rn_nx pg225 rfl ((if_pos ⟨(hk ▸ Nat.le_refl _), (hk ▸ Nat.le_refl _)⟩).trans rfl)
theorem sX1_tried_107 : Rn r 225 107 [some (vR z), l1, l2, l3] [] h Q ↔ Rn r 225 108 [some (vR z), l1, l2, l3] [vR z] h Q := Rn_nx pg225 rfl rfl
theorem sX1_tried_108 : Rn r 225 108 [l0, some (vR z), l2, l3] [vR z0] h Q ↔ Rn r 225 109 [l0, some (vR z), l2, l3] [vR z, vR z0] h Q := Rn_nx pg225 rfl rfl
theorem sX1_tried_109 (hk : hK h a0 = 36) : Rn r 225 109 [l0, l1, l2, l3] [vR (some a0), vR z1] h Q ↔ Rn r 225 112 [l0, l1, l2, l3] [vR (hR h a0 5), vR z1] h Q := Rn_nx pg225 rfl (if_pos ⟨(hk ▸ Nat.le_refl _), (hk ▸ Nat.le_refl _)⟩)
theorem sX1_tried_112 (hk : hK h a0 = 4) : Rn r 225 112 [l0, l1, l2, l3] [vR (some a0), vR z1] h Q ↔ Cl r 282 [vR (some a0)] h (Kt r 225 115 [l0, l1, l2, l3] [vR z1] Q) := Rn_call pg225 rfl (by simp only [am_exec, am_inv, am_pop, am_lk, hk]; rfl) pg282 rfl rfl rfl
theorem sX1_tried_115 : Rn r 225 115 [l0, l1, l2, l3] [vI x0, vR z1] h Q ↔ if x0 = 0 then Rn r 225 138 [l0, l1, l2, l3] [vR z1] h Q else Rn r 225 118 [l0, l1, l2, l3] [vR z1] h Q := Rn_if pg225 rfl rfl rfl
theorem sX1_tried_118 : Rn r 225 118 [some (vR z), l1, l2, l3] [vR z0] h Q ↔ Rn r 225 119 [some (vR z), l1, l2, l3] [vR z, vR z0] h Q := Rn_nx pg225 rfl rfl
theorem sX1_tried_119 : Rn r 225 119 [l0, l1, l2, l3] [vR z0, vR z1] h Q ↔ Rn r 225 122 [l0, l1, l2, l3] [vR (some (hE h 25)), vR z0, vR z1] h Q := Rn_nx pg225 rfl rfl
theorem sX1_tried_122 (hk : hK h a1 = 2) : Rn r 225 122 [l0, l1, l2, l3] [vR z0, vR (some a1), vR z2] h Q ↔ Cl r 81 [vR (some a1), vR z0] h (Kt r 225 125 [l0, l1, l2, l3] [vR z2] Q) := Rn_call pg225 rfl (by simp only [am_exec, am_inv, am_pop, am_lk, hk]; rfl) pg81 rfl rfl rfl
theorem sX1_tried_125 : Rn r 225 125 [l0, l1, l2, l3] [vI x0, vR z1] h Q ↔ if x0 ≠ 0 then Rn r 225 138 [l0, l1, l2, l3] [vR z1] h Q else Rn r 225 128 [l0, l1, l2, l3] [vR z1] h Q := Rn_if pg225 rfl rfl rfl
theorem sX1_tried_128 : Rn r 225 128 [some (vR z), l1, l2, l3] [vR z0] h Q ↔ Rn r 225 129 [some (vR z), l1, l2, l3] [vR z, vR z0] h Q := Rn_nx pg225 rfl rfl
theorem sX1_tried_129 : Rn r 225 129 [l0, l1, l2, l3] [vR z0, vR z1] h Q ↔ Rn r 225 132 [l0, l1, l2, l3] [vR (some (hE h 26)), vR z0, vR z1] h Q := Rn_nx pg225 rfl rfl
theorem sX1_tried_132 (hk : hK h a1 = 2) : Rn r 225 132 [l0, l1, l2, l3] [vR z0, vR (some a1), vR z2] h Q ↔ Cl r 81 [vR (some a1), vR z0] h (Kt r 225 135 [l0, l1, l2, l3] [vR z2] Q) := Rn_call pg225 rfl (by simp only [am_exec, am_inv, am_pop, am_lk, hk]; rfl) pg81 rfl rfl rfl
theorem sX1_tried_135 : Rn r 225 135 [l0, l1, l2, l3] [vI x0, vR z1] h Q ↔ if x0 = 0 then Rn r 225 142 [l0, l1, l2, l3] [vR z1] h Q else Rn r 225 138 [l0, l1, l2, l3] [vR z1] h Q := Rn_if pg225 rfl rfl rfl
theorem sX1_tried_138 : Rn r 225 138 [l0, l1, l2, l3] [vR z0] h Q ↔ Rn r 225 139 [l0, l1, l2, l3] [vI 1, vR z0] h Q := Rn_nx pg225 rfl rfl
theorem sX1_tried_139 : Rn r 225 139 [l0, l1, l2, l3] [vI x0, vR z1] h Q ↔ Rn r 225 143 [l0, l1, l2, l3] [vI x0, vR z1] h Q := Rn_nx pg225 rfl rfl
theorem sX1_tried_142 : Rn r 225 142 [l0, l1, l2, l3] [vR z0] h Q ↔ Rn r 225 143 [l0, l1, l2, l3] [vI 0, vR z0] h Q := Rn_nx pg225 rfl rfl
theorem sX1_tried_143 (hk : hK h a1 = 2) : Rn r 225 143 [l0, l1, l2, l3] [vI x0, vR (some a1)] h Q ↔ Cl r 83 [vR (some a1), vI x0] h (Kt r 225 146 [l0, l1, l2, l3] [] Q) := Rn_call pg225 rfl (by simp only [am_exec, am_inv, am_pop, am_lk, hk]; rfl) pg83 rfl rfl rfl
theorem sX1_tried_146 : Rn r 225 146 [some (vR z), l1, l2, l3] [] h Q ↔ Rn r 225 147 [some (vR z), l1, l2, l3] [vR z] h Q := Rn_nx pg225 rfl rfl
theorem sX1_tried_147 : Rn r 225 147 [l0, l1, l2, l3] [vR z0] h Q ↔ Rn r 225 150 [l0, l1, l2, l3] [vR (some (hE h 25)), vR z0] h Q := Rn_nx pg225 rfl rfl
theorem sX1_tried_150 (hk : hK h a1 = 2) : Rn r 225 150 [l0, l1, l2, l3] [vR z0, vR (some a1)] h Q ↔ Cl r 81 [vR (some a1), vR z0] h (Kt r 225 153 [l0, l1, l2, l3] [] Q) := Rn_call pg225 rfl (by simp only [am_exec, am_inv, am_pop, am_lk, hk]; rfl) pg81 rfl rfl rfl
theorem sX1_tried_153 : Rn r 225 153 [l0, l1, l2, l3] [vI x0] h Q ↔ if x0 = 0 then Rn r 225 185 [l0, l1, l2, l3] [] h Q else Rn r 225 156 [l0, l1, l2, l3] [] h Q := Rn_if pg225 rfl rfl rfl
theorem sX1_tried_156 : Rn r 225 156 [some (vR z), l1, l2, l3] [] h Q ↔ Rn r 225 157 [some (vR z), l1, l2, l3] [vR z] h Q := Rn_nx pg225 rfl rfl
theorem sX1_tried_157 : Rn r 225 157 [l0, some (vR z), l2, l3] [vR z0] h Q ↔ Rn r 225 158 [l0, some (vR z), l2, l3] [vR z, vR z0] h Q := Rn_nx pg225 rfl rfl
theorem sX1_tried_158 (hk : hK h a0 = 36) : Rn r 225 158 [l0, l1, l2, l3] [vR (some a0), vR z1] h Q ↔ Rn r 225 161 [l0, l1, l2, l3] [vR (hR h a0 9), vR z1] h Q := Rn_nx pg225 rfl (if_pos ⟨(hk ▸ Nat.le_refl _), (hk ▸ Nat.le_refl _)⟩)
theorem sX1_tried_161 (hk : hK h a0 = 4) : Rn r 225 161 [l0, l1, l2, l3] [vR (some a0), vR z1] h Q ↔ Cl r 34 [vR (some a0)] h (Kt r 225 164 [l0, l1, l2, l3] [vR z1] Q) := Rn_call pg225 rfl (by simp only [am_exec, am_inv, am_pop, am_lk, hk]; rfl) pg34 rfl rfl rfl
theorem sX1_tried_164 : Rn r 225 164 [l0, l1, l2, l3] [vI x0, vR z1] h Q ↔ Rn r 225 165 [l0, l1, l2, l3] [vI 4, vI x0, vR z1] h Q := Rn_nx pg225 rfl rfl
theorem sX1_tried_165 : Rn r 225 165 [l0, l1, l2, l3] [vI x0, vI x1, vR z2] h Q ↔ if x0 ≤ x1 then Rn r 225 172 [l0, l1, l2, l3] [vR z2] h Q else Rn r 225 168 [l0, l1, l2, l3] [vR z2] h Q := Rn_if pg225 rfl rfl rfl
theorem sX1_tried_168 : Rn r 225 168 [l0, l1, l2, l3] [vR z0] h Q ↔ Rn r 225 169 [l0, l1, l2, l3] [vI 1, vR z0] h Q := Rn_nx pg225 rfl rfl
theorem sX1_tried_169 : Rn r 225 169 [l0, l1, l2, l3] [vI x0, vR z1] h Q ↔ Rn r 225 173 [l0, l1, l2, l3] [vI x0, vR z1] h Q := Rn_nx pg225 rfl rfl
theorem sX1_tried_172 : Rn r 225 172 [l0, l1, l2, l3] [vR z0] h Q ↔ Rn r 225 173 [l0, l1, l2, l3] [vI 0, vR z0] h Q := Rn_nx pg225 rfl rfl
theorem sX1_tried_173 (hk : hK h a1 = 2) : Rn r 225 173 [l0, l1, l2, l3] [vI x0, vR (some a1)] h Q ↔ Cl r 83 [vR (some a1), vI x0] h (Kt r 225 176 [l0, l1, l2, l3] [] Q) := Rn_call pg225 rfl (by simp only [am_exec, am_inv, am_pop, am_lk, hk]; rfl) pg83 rfl rfl rfl
theorem sX1_tried_176 : Rn r 225 176 [some (vR z), l1, l2, l3] [] h Q ↔ Rn r 225 177 [some (vR z), l1, l2, l3] [vR z] h Q := Rn_nx pg225 rfl rfl
theorem sX1_tried_177 : Rn r 225 177 [l0, some (vR z), l2, l3] [vR z0] h Q ↔ Rn r 225 178 [l0, some (vR z), l2, l3] [vR z, vR z0] h Q := Rn_nx pg225 rfl rfl
theorem sX1_tried_178 : Rn r 225 178 [l0, l1, l2, some (vR z)] [vR z0, vR z1] h Q ↔ Rn r 225 179 [l0, l1, l2, some (vR z)] [vR z, vR z0, vR z1] h Q := Rn_nx pg225 rfl rfl
theorem sX1_tried_179 (hk : hK h a2 = 2) : Rn r 225 179 [l0, l1, l2, l3] [vR z0, vR z1, vR (some a2)] h Q ↔ Cl r 283 [vR (some a2), vR z1, vR z0] h (Kt r 225 182 [l0, l1, l2, l3] [] Q) := Rn_call pg225 rfl (by simp only [am_exec, am_inv, am_pop, am_lk, hk]; rfl) pg283 rfl rfl rfl
theorem sX1_tried_182 : Rn r 225 182 [l0, l1, l2, l3] [] h Q ↔ Rn r 225 146 [l0, l1, l2, l3] [] h Q := Rn_nx pg225 rfl rfl
theorem sX1_tried_185 : Rn r 225 185 [some (vR z), l1, l2, l3] [] h Q ↔ Rn r 225 186 [some (vR z), l1, l2, l3] [vR z] h Q := Rn_nx pg225 rfl rfl
theorem sX1_tried_186 : Rn r 225 186 [l0, l1, l2, l3] [vR z0] h Q ↔ Rn r 225 189 [l0, l1, l2, l3] [vR (some (hE h 26)), vR z0] h Q := Rn_nx pg225 rfl rfl
theorem sX1_tried_189 (hk : hK h a1 = 2) : Rn r 225 189 [l0, l1, l2, l3] [vR z0, vR (some a1)] h Q ↔ Cl r 81 [vR (some a1), vR z0] h (Kt r 225 192 [l0, l1, l2, l3] [] Q) := Rn_call pg225 rfl (by simp only [am_exec, am_inv, am_pop, am_lk, hk]; rfl) pg81 rfl rfl rfl
theorem sX1_tried_192 : Rn r 225 192 [l0, l1, l2, l3] [vI x0] h Q ↔ if x0 = 0 then Rn r 225 215 [l0, l1, l2, l3] [] h Q else Rn r 225 195 [l0, l1, l2, l3] [] h Q := Rn_if pg225 rfl rfl rfl
theorem sX1_tried_195 : Rn r 225 195 [some (vR z), l1, l2, l3] [] h Q ↔ Rn r 225 196 [some (vR z), l1, l2, l3] [vR z] h Q := Rn_nx pg225 rfl rfl
theorem sX1_tried_196 (hk : hK h a0 = 2) : Rn r 225 196 [l0, l1, l2, l3] [vR (some a0)] h Q ↔ Cl r 80 [vR (some a0)] h (Kt r 225 199 [l0, l1, l2, l3] [] Q) := Rn_call pg225 rfl (by simp only [am_exec, am_inv, am_pop, am_lk, hk]; rfl) pg80 rfl rfl rfl
theorem sX1_tried_199 : Rn r 225 199 [l0, some (vR z), l2, l3] [] h Q ↔ Rn r 225 200 [l0, some (vR z), l2, l3] [vR z] h Q := Rn_nx pg225 rfl rfl
theorem sX1_tried_200 : Rn r 225 200 [some (vR z), l1, l2, l3] [vR z0] h Q ↔ Rn r 225 201 [some (vR z), l1, l2, l3] [vR z, vR z0] h Q := Rn_nx pg225 rfl rfl
theorem sX1_tried_201 : Rn r 225 201 [l0, l1, l2, l3] [vR z0, vR z1] h Q ↔ Rn r 225 204 [l0, l1, l2, l3] [vR (some (hN h)), vR z0, vR z1] (newC h 20 5) Q := Rn_nx pg225 rfl rfl
theorem sX1_tried_204 : Rn r 225 204 [l0, l1, l2, l3] [vR z0, vR z1, vR z2] h Q ↔ Rn r 225 205 [l0, l1, l2, l3] [vR z0, vR z0, vR z1, vR z2] h Q := Rn_nx pg225 rfl rfl
theorem sX1_tried_205 : Rn r 225 205 [l0, l1, some (vR z), l3] [vR z0, vR z1, vR z2, vR z3] h Q ↔ Rn r 225 206 [l0, l1, some (vR z), l3] [vR z, vR z0, vR z1, vR z2, vR z3] h Q := Rn_nx pg225 rfl rfl
theorem sX1_tried_206 (hk : 0 < hK h a1) (hk2 : hK h a1 < 40) : Rn r 225 206 [l0, l1, l2, l3] [vR z0, vR (some a1), vR z2, vR z3, vR z4] h Q ↔ Cl r 133 [vR (some a1), vR z0] h (Kt r 225 209 [l0, l1, l2, l3] [vR z2, vR z3, vR z4] Q) := Rn_call pg225 rfl (if_pos ⟨hk, hk2⟩) pg133 rfl rfl rfl
theorem sX1_tried_209 (hk : hK h a1 = 2) : Rn (r + 1) 225 209 [l0, l1, l2, l3] [vR z0, vR (some a1), vR z2] h Q ↔ Cl r 134 [vR (some a1), vR z0] h (Kt (r + 1) 225 212 [l0, l1, l2, l3] [vR z2] Q) := Rn_call pg225 rfl (by simp only [am_exec, am_inv, am_pop, am_lk, hk]; rfl) pg134 rfl rfl rfl
theorem sX1_tried_212 (hk : hK h a1 = 36) : Rn r 225 212 [l0, l1, l2, l3] [vR z0, vR (some a1)] h Q ↔ Rn r 225 215 [l0, l1, l2, l3] [] (putR h a1 10 z0) Q := Rn_nx pg225 rfl ((if_pos ⟨(hk ▸ Nat.le_refl _), (hk ▸ Nat.le_refl _)⟩).trans rfl)
theorem sX1_tried_215 : Rn r 225 215 [l0, l1, l2, l3] [] h Q ↔ Q (Sum.inl none) h := Rn_end pg225 rfl rfl
/-! 226 ThrowRules$Plain.thrown(LThrowRules$Unit;)I -/
theorem eX14_thrown : Cl r 226 [vR z0, vR z1] h Q ↔ Rn r 226 0 [some (vR z0), some (vR z1)] [] h Q := Cl_in pg226 rfl
theorem sX14_thrown_0 : Rn r 226 0 [l0, l1] [] h Q ↔ Rn r 226 1 [l0, l1] [vI 0] h Q := Rn_nx pg226 rfl rfl
theorem sX14_thrown_1 : Rn r 226 1 [l0, l1] [vI x0] h Q ↔ Q (Sum.inl (some (vI x0))) h := Rn_end pg226 rfl rfl
/-! 227 ThrowRules$Call.thrown(LThrowRules$Unit;)I -/
theorem eX15_thrown : Cl r 227 [vR z0, vR z1] h Q ↔ Rn r 227 0 [some (vR z0), some (vR z1)] [] h Q := Cl_in pg227 rfl
theorem sX15_thrown_0 : Rn r 227 0 [some (vR z), l1] [] h Q ↔ Rn r 227 1 [some (vR z), l1] [vR z] h Q := Rn_nx pg227 rfl rfl
theorem sX15_thrown_1 (hk : hK h a0 = 31) : Rn r 227 1 [l0, l1] [vR (some a0)] h Q ↔ Rn r 227 4 [l0, l1] [vR (hR h a0 7)] h Q := Rn_nx pg227 rfl (if_pos ⟨(hk ▸ Nat.le_refl _), (hk ▸ Nat.le_refl _)⟩)
theorem sX15_thrown_4 : Rn r 227 4 [l0, l1] [vR z0] h Q ↔ if z0 = none then Rn r 227 15 [l0, l1] [] h Q else Rn r 227 7 [l0, l1] [] h Q := Rn_if pg227 rfl rfl rfl
theorem sX15_thrown_7 : Rn r 227 7 [some (vR z), l1] [] h Q ↔ Rn r 227 8 [some (vR z), l1] [vR z] h Q := Rn_nx pg227 rfl rfl
theorem sX15_thrown_8 (hk : hK h a0 = 31) : Rn r 227 8 [l0, l1] [vR (some a0)] h Q ↔ Rn r 227 11 [l0, l1] [vR (hR h a0 7)] h Q := Rn_nx pg227 rfl (if_pos ⟨(hk ▸ Nat.le_refl _), (hk ▸ Nat.le_refl _)⟩)
theorem sX15_thrown_11 : Rn r 227 11 [l0, some (vR z)] [vR z0] h Q ↔ Rn r 227 12 [l0, some (vR z)] [vR z, vR z0] h Q := Rn_nx pg227 rfl rfl
theorem sX15_thrown_12 (hk : hK h a1 = 21) : Rn (r + 1) 227 12 [l0, l1] [vR z0, vR (some a1)] h Q ↔ Cl r 137 [vR (some a1), vR z0] h (Kt (r + 1) 227 15 [l0, l1] [] Q) := Rn_call pg227 rfl (by simp only [am_exec, am_inv, am_pop, am_lk, hk]; rfl) pg137 rfl rfl rfl
theorem sX15_thrown_15 : Rn r 227 15 [some (vR z), l1] [] h Q ↔ Rn r 227 16 [some (vR z), l1] [vR z] h Q := Rn_nx pg227 rfl rfl
theorem sX15_thrown_16 (hk : hK h a0 = 31) : Rn r 227 16 [l0, l1] [vR (some a0)] h Q ↔ Rn r 227 19 [l0, l1] [vR (hR h a0 6)] h Q := Rn_nx pg227 rfl (if_pos ⟨(hk ▸ Nat.le_refl _), (hk ▸ Nat.le_refl _)⟩)
theorem sX15_thrown_19 : Rn r 227 19 [l0, l1] [vR z0] h Q ↔ if z0 ≠ none then Rn r 227 24 [l0, l1] [] h Q else Rn r 227 22 [l0, l1] [] h Q := Rn_if pg227 rfl rfl rfl
theorem sX15_thrown_22 : Rn r 227 22 [l0, l1] [] h Q ↔ Rn r 227 23 [l0, l1] [vI 0] h Q := Rn_nx pg227 rfl rfl
theorem sX15_thrown_23 : Rn r 227 23 [l0, l1] [vI x0] h Q ↔ Q (Sum.inl (some (vI x0))) h := Rn_end pg227 rfl rfl
theorem sX15_thrown_24 : Rn r 227 24 [some (vR z), l1] [] h Q ↔ Rn r 227 25 [some (vR z), l1] [vR z] h Q := Rn_nx pg227 rfl rfl
theorem sX15_thrown_25 (hk : hK h a0 = 31) : Rn r 227 25 [l0, l1] [vR (some a0)] h Q ↔ Rn r 227 28 [l0, l1] [vR (hR h a0 7)] h Q := Rn_nx pg227 rfl (if_pos ⟨(hk ▸ Nat.le_refl _), (hk ▸ Nat.le_refl _)⟩)
theorem sX15_thrown_28 : Rn r 227 28 [l0, l1] [vR z0] h Q ↔ if z0 = none then Rn r 227 55 [l0, l1] [] h Q else Rn r 227 31 [l0, l1] [] h Q := Rn_if pg227 rfl rfl rfl
theorem sX15_thrown_31 : Rn r 227 31 [some (vR z), l1] [] h Q ↔ Rn r 227 32 [some (vR z), l1] [vR z] h Q := Rn_nx pg227 rfl rfl
theorem sX15_thrown_32 (hk : hK h a0 = 31) : Rn r 227 32 [l0, l1] [vR (some a0)] h Q ↔ Rn r 227 35 [l0, l1] [vR (hR h a0 6)] h Q := Rn_nx pg227 rfl (if_pos ⟨(hk ▸ Nat.le_refl _), (hk ▸ Nat.le_refl _)⟩)
theorem sX15_thrown_35 (hk : hK h a0 = 18) : Rn r 227 35 [l0, l1] [vR (some a0)] h Q ↔ Rn r 227 38 [l0, l1] [vI (hI h a0 3)] h Q := Rn_nx pg227 rfl (if_pos ⟨(hk ▸ Nat.le_refl _), (hk ▸ Nat.le_refl _)⟩)
theorem sX15_thrown_38 : Rn r 227 38 [l0, l1] [vI x0] h Q ↔ if x0 ≠ 0 then Rn r 227 55 [l0, l1] [] h Q else Rn r 227 41 [l0, l1] [] h Q := Rn_if pg227 rfl rfl rfl
theorem sX15_thrown_41 : Rn r 227 41 [l0, some (vR z)] [] h Q ↔ Rn r 227 42 [l0, some (vR z)] [vR z] h Q := Rn_nx pg227 rfl rfl
theorem sX15_thrown_42 : Rn r 227 42 [l0, l1] [vR z0] h Q ↔ Rn r 227 44 [l0, l1] [vI 11, vR z0] h Q := Rn_nx pg227 rfl rfl
theorem sX15_thrown_44 : Rn r 227 44 [some (vR z), l1] [vI x0, vR z1] h Q ↔ Rn r 227 45 [some (vR z), l1] [vR z, vI x0, vR z1] h Q := Rn_nx pg227 rfl rfl
theorem sX15_thrown_45 (hk : hK h a0 = 31) : Rn r 227 45 [l0, l1] [vR (some a0), vI x1, vR z2] h Q ↔ Rn r 227 48 [l0, l1] [vR (hR h a0 7), vI x1, vR z2] h Q := Rn_nx pg227 rfl (if_pos ⟨(hk ▸ Nat.le_refl _), (hk ▸ Nat.le_refl _)⟩)
theorem sX15_thrown_48 (hk : hK h a0 = 21) : Rn r 227 48 [l0, l1] [vR (some a0), vI x1, vR z2] h Q ↔ Rn r 227 51 [l0, l1] [vI (hI h a0 1), vI x1, vR z2] h Q := Rn_nx pg227 rfl (if_pos ⟨(hk ▸ Nat.le_refl _), (hk ▸ Nat.le_refl _)⟩)
theorem sX15_thrown_51 : Rn r 227 51 [l0, l1] [vI x0, vI x1, vR z2] h Q ↔ Rn r 227 52 [l0, l1] [vI (-1), vI x0, vI x1, vR z2] h Q := Rn_nx pg227 rfl rfl
theorem sX15_thrown_52 (hk : hK h a3 = 5) : Rn r 227 52 [l0, l1] [vI x0, vI x1, vI x2, vR (some a3)] h Q ↔ Cl r 130 [vR (some a3), vI x2, vI x1, vI x0] h (Kt r 227 55 [l0, l1] [] Q) := Rn_call pg227 rfl (by simp only [am_exec, am_inv, am_pop, am_lk, hk]; rfl) pg130 rfl rfl rfl
theorem sX15_thrown_55 : Rn r 227 55 [l0, some (vR z)] [] h Q ↔ Rn r 227 56 [l0, some (vR z)] [vR z] h Q := Rn_nx pg227 rfl rfl
theorem sX15_thrown_56 : Rn r 227 56 [some (vR z), l1] [vR z0] h Q ↔ Rn r 227 57 [some (vR z), l1] [vR z, vR z0] h Q := Rn_nx pg227 rfl rfl
theorem sX15_thrown_57 (hk : hK h a0 = 31) : Rn r 227 57 [l0, l1] [vR (some a0), vR z1] h Q ↔ Rn r 227 60 [l0, l1] [vR (hR h a0 6), vR z1] h Q := Rn_nx pg227 rfl (if_pos ⟨(hk ▸ Nat.le_refl _), (hk ▸ Nat.le_refl _)⟩)
theorem sX15_thrown_60 (hk : hK h a0 = 18) : Rn r 227 60 [l0, l1] [vR (some a0), vR z1] h Q ↔ Rn r 227 63 [l0, l1] [vR (hR h a0 7), vR z1] h Q := Rn_nx pg227 rfl (if_pos ⟨(hk ▸ Nat.le_refl _), (hk ▸ Nat.le_refl _)⟩)
theorem sX15_thrown_63 (hk : hK h a1 = 5) : Rn r 227 63 [l0, l1] [vR z0, vR (some a1)] h Q ↔ Cl r 49 [vR (some a1), vR z0] h (Kt r 227 66 [l0, l1] [] Q) := Rn_call pg227 rfl (by simp only [am_exec, am_inv, am_pop, am_lk, hk]; rfl) pg49 rfl rfl rfl
theorem sX15_thrown_66 : Rn r 227 66 [some (vR z), l1] [vI x0] h Q ↔ Rn r 227 67 [some (vR z), l1] [vR z, vI x0] h Q := Rn_nx pg227 rfl rfl
theorem sX15_thrown_67 (hk : hK h a0 = 31) : Rn r 227 67 [l0, l1] [vR (some a0), vI x1] h Q ↔ Rn r 227 70 [l0, l1] [vR (hR h a0 6), vI x1] h Q := Rn_nx pg227 rfl (if_pos ⟨(hk ▸ Nat.le_refl _), (hk ▸ Nat.le_refl _)⟩)
theorem sX15_thrown_70 (hk : hK h a0 = 18) : Rn r 227 70 [l0, l1] [vR (some a0), vI x1] h Q ↔ Rn r 227 73 [l0, l1] [vI (hI h a0 3), vI x1] h Q := Rn_nx pg227 rfl (if_pos ⟨(hk ▸ Nat.le_refl _), (hk ▸ Nat.le_refl _)⟩)
theorem sX15_thrown_73 : Rn r 227 73 [l0, l1] [vI x0, vI x1] h Q ↔ if x0 = 0 then Rn r 227 101 [l0, l1] [vI x1] h Q else Rn r 227 76 [l0, l1] [vI x1] h Q := Rn_if pg227 rfl rfl rfl
theorem sX15_thrown_76 : Rn r 227 76 [l0, some (vR z)] [vI x0] h Q ↔ Rn r 227 77 [l0, some (vR z)] [vR z, vI x0] h Q := Rn_nx pg227 rfl rfl
theorem sX15_thrown_77 : Rn r 227 77 [some (vR z), l1] [vR z0, vI x1] h Q ↔ Rn r 227 78 [some (vR z), l1] [vR z, vR z0, vI x1] h Q := Rn_nx pg227 rfl rfl
theorem sX15_thrown_78 (hk : hK h a0 = 31) : Rn r 227 78 [l0, l1] [vR (some a0), vR z1, vI x2] h Q ↔ Rn r 227 81 [l0, l1] [vR (hR h a0 7), vR z1, vI x2] h Q := Rn_nx pg227 rfl (if_pos ⟨(hk ▸ Nat.le_refl _), (hk ▸ Nat.le_refl _)⟩)
theorem sX15_thrown_81 : Rn r 227 81 [l0, l1] [vR z0, vR z1, vI x2] h Q ↔ if z0 ≠ none then Rn r 227 88 [l0, l1] [vR z1, vI x2] h Q else Rn r 227 84 [l0, l1] [vR z1, vI x2] h Q := Rn_if pg227 rfl rfl rfl
theorem sX15_thrown_84 : Rn r 227 84 [l0, l1] [vR z0, vI x1] h Q ↔ Rn r 227 85 [l0, l1] [vI 0, vR z0, vI x1] h Q := Rn_nx pg227 rfl rfl
theorem sX15_thrown_85 : Rn r 227 85 [l0, l1] [vI x0, vR z1, vI x2] h Q ↔ Rn r 227 95 [l0, l1] [vI x0, vR z1, vI x2] h Q := Rn_nx pg227 rfl rfl
theorem sX15_thrown_88 : Rn r 227 88 [some (vR z), l1] [vR z0, vI x1] h Q ↔ Rn r 227 89 [some (vR z), l1] [vR z, vR z0, vI x1] h Q := Rn_nx pg227 rfl rfl
theorem sX15_thrown_89 (hk : hK h a0 = 31) : Rn r 227 89 [l0, l1] [vR (some a0), vR z1, vI x2] h Q ↔ Rn r 227 92 [l0, l1] [vR (hR h a0 7), vR z1, vI x2] h Q := Rn_nx pg227 rfl (if_pos ⟨(hk ▸ Nat.le_refl _), (hk ▸ Nat.le_refl _)⟩)
theorem sX15_thrown_92 (hk : hK h a0 = 21) : Rn r 227 92 [l0, l1] [vR (some a0), vR z1, vI x2] h Q ↔ Rn r 227 95 [l0, l1] [vI (hI h a0 2), vR z1, vI x2] h Q := Rn_nx pg227 rfl (if_pos ⟨(hk ▸ Nat.le_refl _), (hk ▸ Nat.le_refl _)⟩)
theorem sX15_thrown_95 (hk : hK h a1 = 5) : Rn r 227 95 [l0, l1] [vI x0, vR (some a1), vI x2] h Q ↔ Cl r 284 [vR (some a1), vI x0] h (Kt r 227 98 [l0, l1] [vI x2] Q) := Rn_call pg227 rfl (by simp only [am_exec, am_inv, am_pop, am_lk, hk]; rfl) pg284 rfl rfl rfl
theorem sX15_thrown_98 : Rn r 227 98 [l0, l1] [vI x0, vI x1] h Q ↔ Rn r 227 102 [l0, l1] [vI x0, vI x1] h Q := Rn_nx pg227 rfl rfl
theorem sX15_thrown_101 : Rn r 227 101 [l0, l1] [vI x0] h Q ↔ Rn r 227 102 [l0, l1] [vI 0, vI x0] h Q := Rn_nx pg227 rfl rfl
theorem sX15_thrown_102 : Rn r 227 102 [l0, l1] [vI x0, vI x1] h Q ↔ Rn r 227 103 [l0, l1] [vI (x1 ||| x0)] h Q := Rn_nx pg227 rfl rfl
theorem sX15_thrown_103 : Rn r 227 103 [l0, l1] [vI x0] h Q ↔ Q (Sum.inl (some (vI x0))) h := Rn_end pg227 rfl rfl
/-! 228 ThrowRules$Throw.thrown(LThrowRules$Unit;)I -/
theorem eX16_thrown : Cl r 228 [vR z0, vR z1] h Q ↔ Rn r 228 0 [some (vR z0), some (vR z1)] [] h Q := Cl_in pg228 rfl
theorem sX16_thrown_0 : Rn r 228 0 [some (vR z), l1] [] h Q ↔ Rn r 228 1 [some (vR z), l1] [vR z] h Q := Rn_nx pg228 rfl rfl
theorem sX16_thrown_1 (hk : hK h a0 = 32) : Rn r 228 1 [l0, l1] [vR (some a0)] h Q ↔ Rn r 228 4 [l0, l1] [vR (hR h a0 5)] h Q := Rn_nx pg228 rfl (if_pos ⟨(hk ▸ Nat.le_refl _), (hk ▸ Nat.le_refl _)⟩)
theorem sX16_thrown_4 : Rn r 228 4 [l0, l1] [vR z0] h Q ↔ if z0 = none then Rn r 228 18 [l0, l1] [] h Q else Rn r 228 7 [l0, l1] [] h Q := Rn_if pg228 rfl rfl rfl
theorem sX16_thrown_7 : Rn r 228 7 [some (vR z), l1] [] h Q ↔ Rn r 228 8 [some (vR z), l1] [vR z] h Q := Rn_nx pg228 rfl rfl
theorem sX16_thrown_8 (hk : hK h a0 = 32) : Rn r 228 8 [l0, l1] [vR (some a0)] h Q ↔ Rn r 228 11 [l0, l1] [vR (hR h a0 5)] h Q := Rn_nx pg228 rfl (if_pos ⟨(hk ▸ Nat.le_refl _), (hk ▸ Nat.le_refl _)⟩)
theorem sX16_thrown_11 : Rn r 228 11 [l0, some (vR z)] [vR z0] h Q ↔ Rn r 228 12 [l0, some (vR z)] [vR z, vR z0] h Q := Rn_nx pg228 rfl rfl
theorem sX16_thrown_12 (hk : hK h a1 = 22) : Rn r 228 12 [l0, l1] [vR z0, vR (some a1)] h Q ↔ Cl r 285 [vR (some a1), vR z0] h (Kt r 228 15 [l0, l1] [] Q) := Rn_call pg228 rfl (by simp only [am_exec, am_inv, am_pop, am_lk, hk]; rfl) pg285 rfl rfl rfl
theorem sX16_thrown_15 : Rn r 228 15 [l0, l1] [vI x0] h Q ↔ Rn r 228 38 [l0, l1] [vI x0] h Q := Rn_nx pg228 rfl rfl
theorem sX16_thrown_18 : Rn r 228 18 [some (vR z), l1] [] h Q ↔ Rn r 228 19 [some (vR z), l1] [vR z] h Q := Rn_nx pg228 rfl rfl
theorem sX16_thrown_19 (hk : hK h a0 = 32) : Rn r 228 19 [l0, l1] [vR (some a0)] h Q ↔ Rn r 228 22 [l0, l1] [vR (hR h a0 6)] h Q := Rn_nx pg228 rfl (if_pos ⟨(hk ▸ Nat.le_refl _), (hk ▸ Nat.le_refl _)⟩)
theorem sX16_thrown_22 : Rn r 228 22 [l0, l1] [vR z0] h Q ↔ if z0 ≠ none then Rn r 228 29 [l0, l1] [] h Q else Rn r 228 25 [l0, l1] [] h Q := Rn_if pg228 rfl rfl rfl
theorem sX16_thrown_25 : Rn r 228 25 [l0, l1] [] h Q ↔ Rn r 228 26 [l0, l1] [vI 0] h Q := Rn_nx pg228 rfl rfl
theorem sX16_thrown_26 : Rn r 228 26 [l0, l1] [vI x0] h Q ↔ Rn r 228 38 [l0, l1] [vI x0] h Q := Rn_nx pg228 rfl rfl
theorem sX16_thrown_29 : Rn r 228 29 [l0, l1] [] h Q ↔ Rn r 228 30 [l0, l1] [vI 1] h Q := Rn_nx pg228 rfl rfl
theorem sX16_thrown_30 : Rn r 228 30 [some (vR z), l1] [vI x0] h Q ↔ Rn r 228 31 [some (vR z), l1] [vR z, vI x0] h Q := Rn_nx pg228 rfl rfl
theorem sX16_thrown_31 (hk : hK h a0 = 32) : Rn r 228 31 [l0, l1] [vR (some a0), vI x1] h Q ↔ Rn r 228 34 [l0, l1] [vR (hR h a0 6), vI x1] h Q := Rn_nx pg228 rfl (if_pos ⟨(hk ▸ Nat.le_refl _), (hk ▸ Nat.le_refl _)⟩)
theorem sX16_thrown_34 (hk : hK h a0 = 7) : Rn r 228 34 [l0, l1] [vR (some a0), vI x1] h Q ↔ Rn r 228 37 [l0, l1] [vI (hI h a0 1), vI x1] h Q := Rn_nx pg228 rfl (if_pos ⟨(hk ▸ Nat.le_refl _), (hk ▸ Nat.le_refl _)⟩)
theorem sX16_thrown_37 : Rn r 228 37 [l0, l1] [vI x0, vI x1] h Q ↔ Rn r 228 38 [l0, l1] [vI (x1 <<< (x0 &&& 31))] h Q := Rn_nx pg228 rfl rfl
theorem sX16_thrown_38 : Rn r 228 38 [l0, l1] [vI x0] h Q ↔ Q (Sum.inl (some (vI x0))) h := Rn_end pg228 rfl rfl
/-! 229 ThrowRules$If.thrown(LThrowRules$Unit;)I -/
theorem eX17_thrown : Cl r 229 [vR z0, vR z1] h Q ↔ Rn r 229 0 [some (vR z0), some (vR z1)] [] h Q := Cl_in pg229 rfl
theorem sX17_thrown_0 : Rn r 229 0 [some (vR z), l1] [] h Q ↔ Rn r 229 1 [some (vR z), l1] [vR z] h Q := Rn_nx pg229 rfl rfl
theorem sX17_thrown_1 (hk : hK h a0 = 33) : Rn r 229 1 [l0, l1] [vR (some a0)] h Q ↔ Rn r 229 4 [l0, l1] [vR (hR h a0 5)] h Q := Rn_nx pg229 rfl (if_pos ⟨(hk ▸ Nat.le_refl _), (hk ▸ Nat.le_refl _)⟩)
theorem sX17_thrown_4 : Rn r 229 4 [l0, some (vR z)] [vR z0] h Q ↔ Rn r 229 5 [l0, some (vR z)] [vR z, vR z0] h Q := Rn_nx pg229 rfl rfl
theorem sX17_thrown_5 (hk : hK h a1 = 21) : Rn (r + 1) 229 5 [l0, l1] [vR z0, vR (some a1)] h Q ↔ Cl r 137 [vR (some a1), vR z0] h (Kt (r + 1) 229 8 [l0, l1] [] Q) := Rn_call pg229 rfl (by simp only [am_exec, am_inv, am_pop, am_lk, hk]; rfl) pg137 rfl rfl rfl
theorem sX17_thrown_8 : Rn r 229 8 [some (vR z), l1] [] h Q ↔ Rn r 229 9 [some (vR z), l1] [vR z] h Q := Rn_nx pg229 rfl rfl
theorem sX17_thrown_9 (hk : hK h a0 = 33) : Rn r 229 9 [l0, l1] [vR (some a0)] h Q ↔ Rn r 229 12 [l0, l1] [vR (hR h a0 6)] h Q := Rn_nx pg229 rfl (if_pos ⟨(hk ▸ Nat.le_refl _), (hk ▸ Nat.le_refl _)⟩)
theorem sX17_thrown_12 : Rn r 229 12 [l0, l1] [vR z0] h Q ↔ if z0 ≠ none then Rn r 229 23 [l0, l1] [] h Q else Rn r 229 15 [l0, l1] [] h Q := Rn_if pg229 rfl rfl rfl
theorem sX17_thrown_15 : Rn r 229 15 [some (vR z), l1] [] h Q ↔ Rn r 229 16 [some (vR z), l1] [vR z] h Q := Rn_nx pg229 rfl rfl
theorem sX17_thrown_16 (hk : hK h a0 = 33) : Rn r 229 16 [l0, l1] [vR (some a0)] h Q ↔ Rn r 229 19 [l0, l1] [vR (hR h a0 5)] h Q := Rn_nx pg229 rfl (if_pos ⟨(hk ▸ Nat.le_refl _), (hk ▸ Nat.le_refl _)⟩)
theorem sX17_thrown_19 (hk : hK h a0 = 21) : Rn r 229 19 [l0, l1] [vR (some a0)] h Q ↔ Rn r 229 22 [l0, l1] [vI (hI h a0 2)] h Q := Rn_nx pg229 rfl (if_pos ⟨(hk ▸ Nat.le_refl _), (hk ▸ Nat.le_refl _)⟩)
theorem sX17_thrown_22 : Rn r 229 22 [l0, l1] [vI x0] h Q ↔ Q (Sum.inl (some (vI x0))) h := Rn_end pg229 rfl rfl
theorem sX17_thrown_23 : Rn r 229 23 [some (vR z), l1] [] h Q ↔ Rn r 229 24 [some (vR z), l1] [vR z] h Q := Rn_nx pg229 rfl rfl
theorem sX17_thrown_24 (hk : hK h a0 = 33) : Rn r 229 24 [l0, l1] [vR (some a0)] h Q ↔ Rn r 229 27 [l0, l1] [vR (hR h a0 6)] h Q := Rn_nx pg229 rfl (if_pos ⟨(hk ▸ Nat.le_refl _), (hk ▸ Nat.le_refl _)⟩)
theorem sX17_thrown_27 : Rn r 229 27 [l0, some (vR z)] [vR z0] h Q ↔ Rn r 229 28 [l0, some (vR z)] [vR z, vR z0] h Q := Rn_nx pg229 rfl rfl
theorem sX17_thrown_28 (hk : hK h a1 = 21) : Rn (r + 1) 229 28 [l0, l1] [vR z0, vR (some a1)] h Q ↔ Cl r 137 [vR (some a1), vR z0] h (Kt (r + 1) 229 31 [l0, l1] [] Q) := Rn_call pg229 rfl (by simp only [am_exec, am_inv, am_pop, am_lk, hk]; rfl) pg137 rfl rfl rfl
theorem sX17_thrown_31 : Rn r 229 31 [some (vR z), l1] [] h Q ↔ Rn r 229 32 [some (vR z), l1] [vR z] h Q := Rn_nx pg229 rfl rfl
theorem sX17_thrown_32 (hk : hK h a0 = 33) : Rn r 229 32 [l0, l1] [vR (some a0)] h Q ↔ Rn r 229 35 [l0, l1] [vR (hR h a0 5)] h Q := Rn_nx pg229 rfl (if_pos ⟨(hk ▸ Nat.le_refl _), (hk ▸ Nat.le_refl _)⟩)
theorem sX17_thrown_35 (hk : hK h a0 = 21) : Rn r 229 35 [l0, l1] [vR (some a0)] h Q ↔ Rn r 229 38 [l0, l1] [vI (hI h a0 2)] h Q := Rn_nx pg229 rfl (if_pos ⟨(hk ▸ Nat.le_refl _), (hk ▸ Nat.le_refl _)⟩)
theorem sX17_thrown_38 : Rn r 229 38 [some (vR z), l1] [vI x0] h Q ↔ Rn r 229 39 [some (vR z), l1] [vR z, vI x0] h Q := Rn_nx pg229 rfl rfl
theorem sX17_thrown_39 (hk : hK h a0 = 33) : Rn r 229 39 [l0, l1] [vR (some a0), vI x1] h Q ↔ Rn r 229 42 [l0, l1] [vR (hR h a0 6), vI x1] h Q := Rn_nx pg229 rfl (if_pos ⟨(hk ▸ Nat.le_refl _), (hk ▸ Nat.le_refl _)⟩)
theorem sX17_thrown_42 (hk : hK h a0 = 21) : Rn r 229 42 [l0, l1] [vR (some a0), vI x1] h Q ↔ Rn r 229 45 [l0, l1] [vI (hI h a0 2), vI x1] h Q := Rn_nx pg229 rfl (if_pos ⟨(hk ▸ Nat.le_refl _), (hk ▸ Nat.le_refl _)⟩)
theorem sX17_thrown_45 : Rn r 229 45 [l0, l1] [vI x0, vI x1] h Q ↔ Rn r 229 46 [l0, l1] [vI (x1 ||| x0)] h Q := Rn_nx pg229 rfl rfl
theorem sX17_thrown_46 : Rn r 229 46 [l0, l1] [vI x0] h Q ↔ Q (Sum.inl (some (vI x0))) h := Rn_end pg229 rfl rfl
/-! 230 ThrowRules$Loop.thrown(LThrowRules$Unit;)I -/
theorem eX18_thrown : Cl r 230 [vR z0, vR z1] h Q ↔ Rn r 230 0 [some (vR z0), some (vR z1)] [] h Q := Cl_in pg230 rfl
theorem sX18_thrown_0 : Rn r 230 0 [some (vR z), l1] [] h Q ↔ Rn r 230 1 [some (vR z), l1] [vR z] h Q := Rn_nx pg230 rfl rfl
theorem sX18_thrown_1 (hk : hK h a0 = 34) : Rn r 230 1 [l0, l1] [vR (some a0)] h Q ↔ Rn r 230 4 [l0, l1] [vR (hR h a0 6)] h Q := Rn_nx pg230 rfl (if_pos ⟨(hk ▸ Nat.le_refl _), (hk ▸ Nat.le_refl _)⟩)
theorem sX18_thrown_4 : Rn r 230 4 [l0, some (vR z)] [vR z0] h Q ↔ Rn r 230 5 [l0, some (vR z)] [vR z, vR z0] h Q := Rn_nx pg230 rfl rfl
theorem sX18_thrown_5 (hk : hK h a1 = 21) : Rn (r + 1) 230 5 [l0, l1] [vR z0, vR (some a1)] h Q ↔ Cl r 137 [vR (some a1), vR z0] h (Kt (r + 1) 230 8 [l0, l1] [] Q) := Rn_call pg230 rfl (by simp only [am_exec, am_inv, am_pop, am_lk, hk]; rfl) pg137 rfl rfl rfl
theorem sX18_thrown_8 : Rn r 230 8 [some (vR z), l1] [] h Q ↔ Rn r 230 9 [some (vR z), l1] [vR z] h Q := Rn_nx pg230 rfl rfl
theorem sX18_thrown_9 (hk : hK h a0 = 34) : Rn r 230 9 [l0, l1] [vR (some a0)] h Q ↔ Rn r 230 12 [l0, l1] [vR (hR h a0 6)] h Q := Rn_nx pg230 rfl (if_pos ⟨(hk ▸ Nat.le_refl _), (hk ▸ Nat.le_refl _)⟩)
theorem sX18_thrown_12 (hk : hK h a0 = 21) : Rn r 230 12 [l0, l1] [vR (some a0)] h Q ↔ Rn r 230 15 [l0, l1] [vI (hI h a0 2)] h Q := Rn_nx pg230 rfl (if_pos ⟨(hk ▸ Nat.le_refl _), (hk ▸ Nat.le_refl _)⟩)
theorem sX18_thrown_15 : Rn r 230 15 [l0, l1] [vI x0] h Q ↔ Q (Sum.inl (some (vI x0))) h := Rn_end pg230 rfl rfl
/-! 231 ThrowRules$Break.thrown(LThrowRules$Unit;)I -/
theorem eX19_thrown : Cl r 231 [vR z0, vR z1] h Q ↔ Rn r 231 0 [some (vR z0), some (vR z1)] [] h Q := Cl_in pg231 rfl
theorem sX19_thrown_0 : Rn r 231 0 [some (vR z), l1] [] h Q ↔ Rn r 231 1 [some (vR z), l1] [vR z] h Q := Rn_nx pg231 rfl rfl
theorem sX19_thrown_1 (hk : hK h a0 = 35) : Rn r 231 1 [l0, l1] [vR (some a0)] h Q ↔ Rn r 231 4 [l0, l1] [vR (hR h a0 5)] h Q := Rn_nx pg231 rfl (if_pos ⟨(hk ▸ Nat.le_refl _), (hk ▸ Nat.le_refl _)⟩)
theorem sX19_thrown_4 : Rn r 231 4 [l0, l1] [vR z0] h Q ↔ if z0 ≠ none then Rn r 231 18 [l0, l1] [] h Q else Rn r 231 7 [l0, l1] [] h Q := Rn_if pg231 rfl rfl rfl
theorem sX19_thrown_7 : Rn r 231 7 [l0, some (vR z)] [] h Q ↔ Rn r 231 8 [l0, some (vR z)] [vR z] h Q := Rn_nx pg231 rfl rfl
theorem sX19_thrown_8 : Rn r 231 8 [l0, l1] [vR z0] h Q ↔ Rn r 231 10 [l0, l1] [vI 8, vR z0] h Q := Rn_nx pg231 rfl rfl
theorem sX19_thrown_10 : Rn r 231 10 [some (vR z), l1] [vI x0, vR z1] h Q ↔ Rn r 231 11 [some (vR z), l1] [vR z, vI x0, vR z1] h Q := Rn_nx pg231 rfl rfl
theorem sX19_thrown_11 (hk : hK h a0 = 35) : Rn r 231 11 [l0, l1] [vR (some a0), vI x1, vR z2] h Q ↔ Rn r 231 14 [l0, l1] [vI (hI h a0 1), vI x1, vR z2] h Q := Rn_nx pg231 rfl (if_pos ⟨(hk ▸ Nat.le_refl _), (hk ▸ Nat.le_refl _)⟩)
theorem sX19_thrown_14 : Rn r 231 14 [l0, l1] [vI x0, vI x1, vR z2] h Q ↔ Rn r 231 15 [l0, l1] [vI (-1), vI x0, vI x1, vR z2] h Q := Rn_nx pg231 rfl rfl
theorem sX19_thrown_15 (hk : hK h a3 = 5) : Rn r 231 15 [l0, l1] [vI x0, vI x1, vI x2, vR (some a3)] h Q ↔ Cl r 130 [vR (some a3), vI x2, vI x1, vI x0] h (Kt r 231 18 [l0, l1] [] Q) := Rn_call pg231 rfl (by simp only [am_exec, am_inv, am_pop, am_lk, hk]; rfl) pg130 rfl rfl rfl
theorem sX19_thrown_18 : Rn r 231 18 [l0, l1] [] h Q ↔ Rn r 231 19 [l0, l1] [vI 0] h Q := Rn_nx pg231 rfl rfl
theorem sX19_thrown_19 : Rn r 231 19 [l0, l1] [vI x0] h Q ↔ Q (Sum.inl (some (vI x0))) h := Rn_end pg231 rfl rfl
/-! 232 ThrowRules$Try.thrown(LThrowRules$Unit;)I -/
theorem eX20_thrown : Cl r 232 [vR z0, vR z1] h Q ↔ Rn r 232 0 [some (vR z0), some (vR z1), none, none, none, none] [] h Q := Cl_in pg232 rfl
theorem sX20_thrown_0 : Rn r 232 0 [some (vR z), l1, l2, l3, l4, l5] [] h Q ↔ Rn r 232 1 [some (vR z), l1, l2, l3, l4, l5] [vR z] h Q := Rn_nx pg232 rfl rfl
theorem sX20_thrown_1 (hk : hK h a0 = 36) : Rn r 232 1 [l0, l1, l2, l3, l4, l5] [vR (some a0)] h Q ↔ Rn r 232 4 [l0, l1, l2, l3, l4, l5] [vR (hR h a0 10)] h Q := Rn_nx pg232 rfl (if_pos ⟨(hk ▸ Nat.le_refl _), (hk ▸ Nat.le_refl _)⟩)
theorem sX20_thrown_4 : Rn r 232 4 [l0, l1, l2, l3, l4, l5] [vR z0] h Q ↔ if z0 = none then Rn r 232 15 [l0, l1, l2, l3, l4, l5] [] h Q else Rn r 232 7 [l0, l1, l2, l3, l4, l5] [] h Q := Rn_if pg232 rfl rfl rfl
theorem sX20_thrown_7 : Rn r 232 7 [some (vR z), l1, l2, l3, l4, l5] [] h Q ↔ Rn r 232 8 [some (vR z), l1, l2, l3, l4, l5] [vR z] h Q := Rn_nx pg232 rfl rfl
theorem sX20_thrown_8 (hk : hK h a0 = 36) : Rn r 232 8 [l0, l1, l2, l3, l4, l5] [vR (some a0)] h Q ↔ Rn r 232 11 [l0, l1, l2, l3, l4, l5] [vR (hR h a0 10)] h Q := Rn_nx pg232 rfl (if_pos ⟨(hk ▸ Nat.le_refl _), (hk ▸ Nat.le_refl _)⟩)
theorem sX20_thrown_11 : Rn r 232 11 [l0, some (vR z), l2, l3, l4, l5] [vR z0] h Q ↔ Rn r 232 12 [l0, some (vR z), l2, l3, l4, l5] [vR z, vR z0] h Q := Rn_nx pg232 rfl rfl
theorem sX20_thrown_12 (hk : hK h a1 = 21) : Rn (r + 1) 232 12 [l0, l1, l2, l3, l4, l5] [vR z0, vR (some a1)] h Q ↔ Cl r 137 [vR (some a1), vR z0] h (Kt (r + 1) 232 15 [l0, l1, l2, l3, l4, l5] [] Q) := Rn_call pg232 rfl (by simp only [am_exec, am_inv, am_pop, am_lk, hk]; rfl) pg137 rfl rfl rfl
theorem sX20_thrown_15 : Rn r 232 15 [some (vR z), l1, l2, l3, l4, l5] [] h Q ↔ Rn r 232 16 [some (vR z), l1, l2, l3, l4, l5] [vR z] h Q := Rn_nx pg232 rfl rfl
theorem sX20_thrown_16 (hk : hK h a0 = 36) : Rn r 232 16 [l0, l1, l2, l3, l4, l5] [vR (some a0)] h Q ↔ Rn r 232 19 [l0, l1, l2, l3, l4, l5] [vR (hR h a0 8)] h Q := Rn_nx pg232 rfl (if_pos ⟨(hk ▸ Nat.le_refl _), (hk ▸ Nat.le_refl _)⟩)
theorem sX20_thrown_19 : Rn r 232 19 [l0, some (vR z), l2, l3, l4, l5] [vR z0] h Q ↔ Rn r 232 20 [l0, some (vR z), l2, l3, l4, l5] [vR z, vR z0] h Q := Rn_nx pg232 rfl rfl
theorem sX20_thrown_20 (hk : hK h a1 = 21) : Rn (r + 1) 232 20 [l0, l1, l2, l3, l4, l5] [vR z0, vR (some a1)] h Q ↔ Cl r 137 [vR (some a1), vR z0] h (Kt (r + 1) 232 23 [l0, l1, l2, l3, l4, l5] [] Q) := Rn_call pg232 rfl (by simp only [am_exec, am_inv, am_pop, am_lk, hk]; rfl) pg137 rfl rfl rfl
theorem sX20_thrown_23 : Rn r 232 23 [some (vR z), l1, l2, l3, l4, l5] [] h Q ↔ Rn r 232 24 [some (vR z), l1, l2, l3, l4, l5] [vR z] h Q := Rn_nx pg232 rfl rfl
theorem sX20_thrown_24 : Rn r 232 24 [some (vR z), l1, l2, l3, l4, l5] [vR z0] h Q ↔ Rn r 232 25 [some (vR z), l1, l2, l3, l4, l5] [vR z, vR z0] h Q := Rn_nx pg232 rfl rfl
theorem sX20_thrown_25 (hk : hK h a0 = 36) : Rn r 232 25 [l0, l1, l2, l3, l4, l5] [vR (some a0), vR z1] h Q ↔ Rn r 232 28 [l0, l1, l2, l3, l4, l5] [vR (hR h a0 8), vR z1] h Q := Rn_nx pg232 rfl (if_pos ⟨(hk ▸ Nat.le_refl _), (hk ▸ Nat.le_refl _)⟩)
theorem sX20_thrown_28 (hk : hK h a0 = 21) : Rn r 232 28 [l0, l1, l2, l3, l4, l5] [vR (some a0), vR z1] h Q ↔ Rn r 232 31 [l0, l1, l2, l3, l4, l5] [vI (hI h a0 2), vR z1] h Q := Rn_nx pg232 rfl (if_pos ⟨(hk ▸ Nat.le_refl _), (hk ▸ Nat.le_refl _)⟩)
theorem sX20_thrown_31 (hk : hK h a1 = 36) : Rn r 232 31 [l0, l1, l2, l3, l4, l5] [vI x0, vR (some a1)] h Q ↔ Rn r 232 34 [l0, l1, l2, l3, l4, l5] [] (putI h a1 11 x0) Q := Rn_nx pg232 rfl ((if_pos ⟨(hk ▸ Nat.le_refl _), (hk ▸ Nat.le_refl _)⟩).trans rfl)
theorem sX20_thrown_34 : Rn r 232 34 [l0, l1, l2, l3, l4, l5] [] h Q ↔ Rn r 232 35 [l0, l1, l2, l3, l4, l5] [vI 0] h Q := Rn_nx pg232 rfl rfl
theorem sX20_thrown_35 : Rn r 232 35 [l0, l1, l2, l3, l4, l5] [vI x0] h Q ↔ Rn r 232 36 [l0, l1, some (vI x0), l3, l4, l5] [] h Q := Rn_nx pg232 rfl rfl
theorem sX20_thrown_36 : Rn r 232 36 [l0, l1, some (vI x), l3, l4, l5] [] h Q ↔ Rn r 232 37 [l0, l1, some (vI x), l3, l4, l5] [vI x] h Q := Rn_nx pg232 rfl rfl
theorem sX20_thrown_37 : Rn r 232 37 [some (vR z), l1, l2, l3, l4, l5] [vI x0] h Q ↔ Rn r 232 38 [some (vR z), l1, l2, l3, l4, l5] [vR z, vI x0] h Q := Rn_nx pg232 rfl rfl
theorem sX20_thrown_38 (hk : hK h a0 = 36) : Rn r 232 38 [l0, l1, l2, l3, l4, l5] [vR (some a0), vI x1] h Q ↔ Rn r 232 41 [l0, l1, l2, l3, l4, l5] [vR (hR h a0 7), vI x1] h Q := Rn_nx pg232 rfl (if_pos ⟨(hk ▸ Nat.le_refl _), (hk ▸ Nat.le_refl _)⟩)
theorem sX20_thrown_41 (hk : hK h a0 = 4) : Rn r 232 41 [l0, l1, l2, l3, l4, l5] [vR (some a0), vI x1] h Q ↔ Cl r 34 [vR (some a0)] h (Kt r 232 44 [l0, l1, l2, l3, l4, l5] [vI x1] Q) := Rn_call pg232 rfl (by simp only [am_exec, am_inv, am_pop, am_lk, hk]; rfl) pg34 rfl rfl rfl
theorem sX20_thrown_44 : Rn r 232 44 [l0, l1, l2, l3, l4, l5] [vI x0, vI x1] h Q ↔ if x0 ≤ x1 then Rn r 232 95 [l0, l1, l2, l3, l4, l5] [] h Q else Rn r 232 47 [l0, l1, l2, l3, l4, l5] [] h Q := Rn_if pg232 rfl rfl rfl
theorem sX20_thrown_47 : Rn r 232 47 [some (vR z), l1, l2, l3, l4, l5] [] h Q ↔ Rn r 232 48 [some (vR z), l1, l2, l3, l4, l5] [vR z] h Q := Rn_nx pg232 rfl rfl
theorem sX20_thrown_48 : Rn r 232 48 [l0, l1, l2, l3, l4, l5] [vR z0] h Q ↔ Rn r 232 49 [l0, l1, l2, l3, l4, l5] [vR z0, vR z0] h Q := Rn_nx pg232 rfl rfl
theorem sX20_thrown_49 (hk : hK h a0 = 36) : Rn r 232 49 [l0, l1, l2, l3, l4, l5] [vR (some a0), vR z1] h Q ↔ Rn r 232 52 [l0, l1, l2, l3, l4, l5] [vI (hI h a0 11), vR z1] h Q := Rn_nx pg232 rfl (if_pos ⟨(hk ▸ Nat.le_refl _), (hk ▸ Nat.le_refl _)⟩)
theorem sX20_thrown_52 : Rn r 232 52 [some (vR z), l1, l2, l3, l4, l5] [vI x0, vR z1] h Q ↔ Rn r 232 53 [some (vR z), l1, l2, l3, l4, l5] [vR z, vI x0, vR z1] h Q := Rn_nx pg232 rfl rfl
theorem sX20_thrown_53 (hk : hK h a0 = 36) : Rn r 232 53 [l0, l1, l2, l3, l4, l5] [vR (some a0), vI x1, vR z2] h Q ↔ Rn r 232 56 [l0, l1, l2, l3, l4, l5] [vR (hR h a0 7), vI x1, vR z2] h Q := Rn_nx pg232 rfl (if_pos ⟨(hk ▸ Nat.le_refl _), (hk ▸ Nat.le_refl _)⟩)
theorem sX20_thrown_56 : Rn r 232 56 [l0, l1, some (vI x), l3, l4, l5] [vR z0, vI x1, vR z2] h Q ↔ Rn r 232 57 [l0, l1, some (vI x), l3, l4, l5] [vI x, vR z0, vI x1, vR z2] h Q := Rn_nx pg232 rfl rfl
theorem sX20_thrown_57 (hk : hK h a1 = 4) : Rn r 232 57 [l0, l1, l2, l3, l4, l5] [vI x0, vR (some a1), vI x2, vR z3] h Q ↔ Cl r 43 [vR (some a1), vI x0] h (Kt r 232 60 [l0, l1, l2, l3, l4, l5] [vI x2, vR z3] Q) := Rn_call pg232 rfl (by simp only [am_exec, am_inv, am_pop, am_lk, hk]; rfl) pg43 rfl rfl rfl
theorem sX20_thrown_60 : Rn r 232 60 [l0, l1, l2, l3, l4, l5] [vR z0, vI x1, vR z2] h Q ↔ if z0 ≠ none then Rn r 232 67 [l0, l1, l2, l3, l4, l5] [vI x1, vR z2] h Q else Rn r 232 63 [l0, l1, l2, l3, l4, l5] [vI x1, vR z2] h Q := Rn_if pg232 rfl rfl rfl
theorem sX20_thrown_63 : Rn r 232 63 [l0, l1, l2, l3, l4, l5] [vI x0, vR z1] h Q ↔ Rn r 232 64 [l0, l1, l2, l3, l4, l5] [vI 0, vI x0, vR z1] h Q := Rn_nx pg232 rfl rfl
theorem sX20_thrown_64 : Rn r 232 64 [l0, l1, l2, l3, l4, l5] [vI x0, vI x1, vR z2] h Q ↔ Rn r 232 85 [l0, l1, l2, l3, l4, l5] [vI x0, vI x1, vR z2] h Q := Rn_nx pg232 rfl rfl
theorem sX20_thrown_67 : Rn r 232 67 [l0, some (vR z), l2, l3, l4, l5] [vI x0, vR z1] h Q ↔ Rn r 232 68 [l0, some (vR z), l2, l3, l4, l5] [vR z, vI x0, vR z1] h Q := Rn_nx pg232 rfl rfl
theorem sX20_thrown_68 : Rn r 232 68 [some (vR z), l1, l2, l3, l4, l5] [vR z0, vI x1, vR z2] h Q ↔ Rn r 232 69 [some (vR z), l1, l2, l3, l4, l5] [vR z, vR z0, vI x1, vR z2] h Q := Rn_nx pg232 rfl rfl
theorem sX20_thrown_69 (hk : hK h a0 = 36) : Rn r 232 69 [l0, l1, l2, l3, l4, l5] [vR (some a0), vR z1, vI x2, vR z3] h Q ↔ Rn r 232 72 [l0, l1, l2, l3, l4, l5] [vR (hR h a0 7), vR z1, vI x2, vR z3] h Q := Rn_nx pg232 rfl (if_pos ⟨(hk ▸ Nat.le_refl _), (hk ▸ Nat.le_refl _)⟩)
theorem sX20_thrown_72 : Rn r 232 72 [l0, l1, some (vI x), l3, l4, l5] [vR z0, vR z1, vI x2, vR z3] h Q ↔ Rn r 232 73 [l0, l1, some (vI x), l3, l4, l5] [vI x, vR z0, vR z1, vI x2, vR z3] h Q := Rn_nx pg232 rfl rfl
theorem sX20_thrown_73 (hk : hK h a1 = 4) : Rn r 232 73 [l0, l1, l2, l3, l4, l5] [vI x0, vR (some a1), vR z2, vI x3, vR z4] h Q ↔ Cl r 43 [vR (some a1), vI x0] h (Kt r 232 76 [l0, l1, l2, l3, l4, l5] [vR z2, vI x3, vR z4] Q) := Rn_call pg232 rfl (by simp only [am_exec, am_inv, am_pop, am_lk, hk]; rfl) pg43 rfl rfl rfl
theorem sX20_thrown_76_n : Rn r 232 76 [l0, l1, l2, l3, l4, l5] [vR none, vR z1, vI x2, vR z3] h Q ↔ Rn r 232 79 [l0, l1, l2, l3, l4, l5] [vR none, vR z1, vI x2, vR z3] h Q := Rn_nx pg232 rfl rfl
theorem sX20_thrown_76 (hk : hK h a0 ∈ [18]) : Rn r 232 76 [l0, l1, l2, l3, l4, l5] [vR (some a0), vR z1, vI x2, vR z3] h Q ↔ Rn r 232 79 [l0, l1, l2, l3, l4, l5] [vR (some a0), vR z1, vI x2, vR z3] h Q := Rn_nx pg232 rfl (if_pos hk)
theorem sX20_thrown_79 (hk : hK h a0 = 18) : Rn r 232 79 [l0, l1, l2, l3, l4, l5] [vR (some a0), vR z1, vI x2, vR z3] h Q ↔ Rn r 232 82 [l0, l1, l2, l3, l4, l5] [vR (hR h a0 7), vR z1, vI x2, vR z3] h Q := Rn_nx pg232 rfl (if_pos ⟨(hk ▸ Nat.le_refl _), (hk ▸ Nat.le_refl _)⟩)
theorem sX20_thrown_82 (hk : hK h a1 = 5) : Rn r 232 82 [l0, l1, l2, l3, l4, l5] [vR z0, vR (some a1), vI x2, vR z3] h Q ↔ Cl r 49 [vR (some a1), vR z0] h (Kt r 232 85 [l0, l1, l2, l3, l4, l5] [vI x2, vR z3] Q) := Rn_call pg232 rfl (by simp only [am_exec, am_inv, am_pop, am_lk, hk]; rfl) pg49 rfl rfl rfl
theorem sX20_thrown_85 : Rn r 232 85 [l0, l1, l2, l3, l4, l5] [vI x0, vI x1, vR z2] h Q ↔ Rn r 232 86 [l0, l1, l2, l3, l4, l5] [vI (x1 ||| x0), vR z2] h Q := Rn_nx pg232 rfl rfl
theorem sX20_thrown_86 (hk : hK h a1 = 36) : Rn r 232 86 [l0, l1, l2, l3, l4, l5] [vI x0, vR (some a1)] h Q ↔ Rn r 232 89 [l0, l1, l2, l3, l4, l5] [] (putI h a1 11 x0) Q := Rn_nx pg232 rfl ((if_pos ⟨(hk ▸ Nat.le_refl _), (hk ▸ Nat.le_refl _)⟩).trans rfl)
theorem sX20_thrown_89 : Rn r 232 89 [l0, l1, some (vI x), l3, l4, l5] [] h Q ↔ Rn r 232 92 [l0, l1, some (vI (x + 1)), l3, l4, l5] [] h Q := Rn_nx pg232 rfl rfl
theorem sX20_thrown_92 : Rn r 232 92 [l0, l1, l2, l3, l4, l5] [] h Q ↔ Rn r 232 36 [l0, l1, l2, l3, l4, l5] [] h Q := Rn_nx pg232 rfl rfl
theorem sX20_thrown_95 : Rn r 232 95 [l0, l1, l2, l3, l4, l5] [] h Q ↔ Rn r 232 96 [l0, l1, l2, l3, l4, l5] [vI 0] h Q := Rn_nx pg232 rfl rfl
theorem sX20_thrown_96 : Rn r 232 96 [l0, l1, l2, l3, l4, l5] [vI x0] h Q ↔ Rn r 232 97 [l0, l1, some (vI x0), l3, l4, l5] [] h Q := Rn_nx pg232 rfl rfl
theorem sX20_thrown_97 : Rn r 232 97 [l0, l1, l2, l3, l4, l5] [] h Q ↔ Rn r 232 98 [l0, l1, l2, l3, l4, l5] [vI 0] h Q := Rn_nx pg232 rfl rfl
theorem sX20_thrown_98 : Rn r 232 98 [l0, l1, l2, l3, l4, l5] [vI x0] h Q ↔ Rn r 232 99 [l0, l1, l2, some (vI x0), l4, l5] [] h Q := Rn_nx pg232 rfl rfl
theorem sX20_thrown_99 : Rn r 232 99 [l0, l1, l2, l3, l4, l5] [] h Q ↔ Rn r 232 100 [l0, l1, l2, l3, l4, l5] [vI 0] h Q := Rn_nx pg232 rfl rfl
theorem sX20_thrown_100 : Rn r 232 100 [l0, l1, l2, l3, l4, l5] [vI x0] h Q ↔ Rn r 232 102 [l0, l1, l2, l3, some (vI x0), l5] [] h Q := Rn_nx pg232 rfl rfl
theorem sX20_thrown_102 : Rn r 232 102 [l0, l1, l2, l3, some (vI x), l5] [] h Q ↔ Rn r 232 104 [l0, l1, l2, l3, some (vI x), l5] [vI x] h Q := Rn_nx pg232 rfl rfl
theorem sX20_thrown_104 : Rn r 232 104 [some (vR z), l1, l2, l3, l4, l5] [vI x0] h Q ↔ Rn r 232 105 [some (vR z), l1, l2, l3, l4, l5] [vR z, vI x0] h Q := Rn_nx pg232 rfl rfl
theorem sX20_thrown_105 (hk : hK h a0 = 36) : Rn r 232 105 [l0, l1, l2, l3, l4, l5] [vR (some a0), vI x1] h Q ↔ Rn r 232 108 [l0, l1, l2, l3, l4, l5] [vR (hR h a0 9), vI x1] h Q := Rn_nx pg232 rfl (if_pos ⟨(hk ▸ Nat.le_refl _), (hk ▸ Nat.le_refl _)⟩)
theorem sX20_thrown_108 (hk : hK h a0 = 4) : Rn r 232 108 [l0, l1, l2, l3, l4, l5] [vR (some a0), vI x1] h Q ↔ Cl r 34 [vR (some a0)] h (Kt r 232 111 [l0, l1, l2, l3, l4, l5] [vI x1] Q) := Rn_call pg232 rfl (by simp only [am_exec, am_inv, am_pop, am_lk, hk]; rfl) pg34 rfl rfl rfl
theorem sX20_thrown_111 : Rn r 232 111 [l0, l1, l2, l3, l4, l5] [vI x0, vI x1] h Q ↔ if x0 ≤ x1 then Rn r 232 174 [l0, l1, l2, l3, l4, l5] [] h Q else Rn r 232 114 [l0, l1, l2, l3, l4, l5] [] h Q := Rn_if pg232 rfl rfl rfl
theorem sX20_thrown_114 : Rn r 232 114 [some (vR z), l1, l2, l3, l4, l5] [] h Q ↔ Rn r 232 115 [some (vR z), l1, l2, l3, l4, l5] [vR z] h Q := Rn_nx pg232 rfl rfl
theorem sX20_thrown_115 (hk : hK h a0 = 36) : Rn r 232 115 [l0, l1, l2, l3, l4, l5] [vR (some a0)] h Q ↔ Rn r 232 118 [l0, l1, l2, l3, l4, l5] [vR (hR h a0 9)] h Q := Rn_nx pg232 rfl (if_pos ⟨(hk ▸ Nat.le_refl _), (hk ▸ Nat.le_refl _)⟩)
theorem sX20_thrown_118 : Rn r 232 118 [l0, l1, l2, l3, some (vI x), l5] [vR z0] h Q ↔ Rn r 232 120 [l0, l1, l2, l3, some (vI x), l5] [vI x, vR z0] h Q := Rn_nx pg232 rfl rfl
theorem sX20_thrown_120 (hk : hK h a1 = 4) : Rn r 232 120 [l0, l1, l2, l3, l4, l5] [vI x0, vR (some a1)] h Q ↔ Cl r 43 [vR (some a1), vI x0] h (Kt r 232 123 [l0, l1, l2, l3, l4, l5] [] Q) := Rn_call pg232 rfl (by simp only [am_exec, am_inv, am_pop, am_lk, hk]; rfl) pg43 rfl rfl rfl
theorem sX20_thrown_123_n : Rn r 232 123 [l0, l1, l2, l3, l4, l5] [vR none] h Q ↔ Rn r 232 126 [l0, l1, l2, l3, l4, l5] [vR none] h Q := Rn_nx pg232 rfl rfl
theorem sX20_thrown_123 (hk : hK h a0 ∈ [22]) : Rn r 232 123 [l0, l1, l2, l3, l4, l5] [vR (some a0)] h Q ↔ Rn r 232 126 [l0, l1, l2, l3, l4, l5] [vR (some a0)] h Q := Rn_nx pg232 rfl (if_pos hk)
theorem sX20_thrown_126 : Rn r 232 126 [l0, l1, l2, l3, l4, l5] [vR z0] h Q ↔ Rn r 232 128 [l0, l1, l2, l3, l4, some (vR z0)] [] h Q := Rn_nx pg232 rfl rfl
theorem sX20_thrown_128 : Rn r 232 128 [some (vR z), l1, l2, l3, l4, l5] [] h Q ↔ Rn r 232 129 [some (vR z), l1, l2, l3, l4, l5] [vR z] h Q := Rn_nx pg232 rfl rfl
theorem sX20_thrown_129 : Rn r 232 129 [l0, some (vR z), l2, l3, l4, l5] [vR z0] h Q ↔ Rn r 232 130 [l0, some (vR z), l2, l3, l4, l5] [vR z, vR z0] h Q := Rn_nx pg232 rfl rfl
theorem sX20_thrown_130 : Rn r 232 130 [l0, l1, l2, l3, l4, some (vR z)] [vR z0, vR z1] h Q ↔ Rn r 232 132 [l0, l1, l2, l3, l4, some (vR z)] [vR z, vR z0, vR z1] h Q := Rn_nx pg232 rfl rfl
theorem sX20_thrown_132 : Rn r 232 132 [l0, l1, some (vI x), l3, l4, l5] [vR z0, vR z1, vR z2] h Q ↔ Rn r 232 133 [l0, l1, some (vI x), l3, l4, l5] [vI x, vR z0, vR z1, vR z2] h Q := Rn_nx pg232 rfl rfl
theorem sX20_thrown_133 (hk : hK h a3 = 36) : Rn r 232 133 [l0, l1, l2, l3, l4, l5] [vI x0, vR z1, vR z2, vR (some a3)] h Q ↔ Cl r 286 [vR (some a3), vR z2, vR z1, vI x0] h (Kt r 232 136 [l0, l1, l2, l3, l4, l5] [] Q) := Rn_call pg232 rfl (by simp only [am_exec, am_inv, am_pop, am_lk, hk]; rfl) pg286 rfl rfl rfl
theorem sX20_thrown_136 : Rn r 232 136 [l0, l1, some (vI x), l3, l4, l5] [] h Q ↔ Rn r 232 137 [l0, l1, some (vI x), l3, l4, l5] [vI x] h Q := Rn_nx pg232 rfl rfl
theorem sX20_thrown_137 : Rn r 232 137 [l0, some (vR z), l2, l3, l4, l5] [vI x0] h Q ↔ Rn r 232 138 [l0, some (vR z), l2, l3, l4, l5] [vR z, vI x0] h Q := Rn_nx pg232 rfl rfl
theorem sX20_thrown_138 : Rn r 232 138 [l0, l1, l2, l3, l4, some (vR z)] [vR z0, vI x1] h Q ↔ Rn r 232 140 [l0, l1, l2, l3, l4, some (vR z)] [vR z, vR z0, vI x1] h Q := Rn_nx pg232 rfl rfl
theorem sX20_thrown_140 (hk : hK h a0 = 22) : Rn r 232 140 [l0, l1, l2, l3, l4, l5] [vR (some a0), vR z1, vI x2] h Q ↔ Rn r 232 143 [l0, l1, l2, l3, l4, l5] [vR (hR h a0 1), vR z1, vI x2] h Q := Rn_nx pg232 rfl (if_pos ⟨(hk ▸ Nat.le_refl _), (hk ▸ Nat.le_refl _)⟩)
theorem sX20_thrown_143 (hk : hK h a1 = 5) : Rn r 232 143 [l0, l1, l2, l3, l4, l5] [vR z0, vR (some a1), vI x2] h Q ↔ Cl r 49 [vR (some a1), vR z0] h (Kt r 232 146 [l0, l1, l2, l3, l4, l5] [vI x2] Q) := Rn_call pg232 rfl (by simp only [am_exec, am_inv, am_pop, am_lk, hk]; rfl) pg49 rfl rfl rfl
theorem sX20_thrown_146 : Rn r 232 146 [l0, l1, l2, l3, l4, l5] [vI x0, vI x1] h Q ↔ Rn r 232 147 [l0, l1, l2, l3, l4, l5] [vI (x1 ||| x0)] h Q := Rn_nx pg232 rfl rfl
theorem sX20_thrown_147 : Rn r 232 147 [l0, l1, l2, l3, l4, l5] [vI x0] h Q ↔ Rn r 232 148 [l0, l1, some (vI x0), l3, l4, l5] [] h Q := Rn_nx pg232 rfl rfl
theorem sX20_thrown_148 : Rn r 232 148 [l0, l1, l2, l3, l4, some (vR z)] [] h Q ↔ Rn r 232 150 [l0, l1, l2, l3, l4, some (vR z)] [vR z] h Q := Rn_nx pg232 rfl rfl
theorem sX20_thrown_150 (hk : hK h a0 = 22) : Rn r 232 150 [l0, l1, l2, l3, l4, l5] [vR (some a0)] h Q ↔ Rn r 232 153 [l0, l1, l2, l3, l4, l5] [vR (hR h a0 3)] h Q := Rn_nx pg232 rfl (if_pos ⟨(hk ▸ Nat.le_refl _), (hk ▸ Nat.le_refl _)⟩)
theorem sX20_thrown_153 : Rn r 232 153 [l0, some (vR z), l2, l3, l4, l5] [vR z0] h Q ↔ Rn r 232 154 [l0, some (vR z), l2, l3, l4, l5] [vR z, vR z0] h Q := Rn_nx pg232 rfl rfl
theorem sX20_thrown_154 (hk : hK h a1 = 21) : Rn (r + 1) 232 154 [l0, l1, l2, l3, l4, l5] [vR z0, vR (some a1)] h Q ↔ Cl r 137 [vR (some a1), vR z0] h (Kt (r + 1) 232 157 [l0, l1, l2, l3, l4, l5] [] Q) := Rn_call pg232 rfl (by simp only [am_exec, am_inv, am_pop, am_lk, hk]; rfl) pg137 rfl rfl rfl
theorem sX20_thrown_157 : Rn r 232 157 [l0, l1, l2, some (vI x), l4, l5] [] h Q ↔ Rn r 232 158 [l0, l1, l2, some (vI x), l4, l5] [vI x] h Q := Rn_nx pg232 rfl rfl
theorem sX20_thrown_158 : Rn r 232 158 [l0, l1, l2, l3, l4, some (vR z)] [vI x0] h Q ↔ Rn r 232 160 [l0, l1, l2, l3, l4, some (vR z)] [vR z, vI x0] h Q := Rn_nx pg232 rfl rfl
theorem sX20_thrown_160 (hk : hK h a0 = 22) : Rn r 232 160 [l0, l1, l2, l3, l4, l5] [vR (some a0), vI x1] h Q ↔ Rn r 232 163 [l0, l1, l2, l3, l4, l5] [vR (hR h a0 3), vI x1] h Q := Rn_nx pg232 rfl (if_pos ⟨(hk ▸ Nat.le_refl _), (hk ▸ Nat.le_refl _)⟩)
theorem sX20_thrown_163 (hk : hK h a0 = 21) : Rn r 232 163 [l0, l1, l2, l3, l4, l5] [vR (some a0), vI x1] h Q ↔ Rn r 232 166 [l0, l1, l2, l3, l4, l5] [vI (hI h a0 2), vI x1] h Q := Rn_nx pg232 rfl (if_pos ⟨(hk ▸ Nat.le_refl _), (hk ▸ Nat.le_refl _)⟩)
theorem sX20_thrown_166 : Rn r 232 166 [l0, l1, l2, l3, l4, l5] [vI x0, vI x1] h Q ↔ Rn r 232 167 [l0, l1, l2, l3, l4, l5] [vI (x1 ||| x0)] h Q := Rn_nx pg232 rfl rfl
theorem sX20_thrown_167 : Rn r 232 167 [l0, l1, l2, l3, l4, l5] [vI x0] h Q ↔ Rn r 232 168 [l0, l1, l2, some (vI x0), l4, l5] [] h Q := Rn_nx pg232 rfl rfl
theorem sX20_thrown_168 : Rn r 232 168 [l0, l1, l2, l3, some (vI x), l5] [] h Q ↔ Rn r 232 171 [l0, l1, l2, l3, some (vI (x + 1)), l5] [] h Q := Rn_nx pg232 rfl rfl
theorem sX20_thrown_171 : Rn r 232 171 [l0, l1, l2, l3, l4, l5] [] h Q ↔ Rn r 232 102 [l0, l1, l2, l3, l4, l5] [] h Q := Rn_nx pg232 rfl rfl
theorem sX20_thrown_174 : Rn r 232 174 [l0, l1, l2, some (vI x), l4, l5] [] h Q ↔ Rn r 232 175 [l0, l1, l2, some (vI x), l4, l5] [vI x] h Q := Rn_nx pg232 rfl rfl
theorem sX20_thrown_175 : Rn r 232 175 [l0, some (vR z), l2, l3, l4, l5] [vI x0] h Q ↔ Rn r 232 176 [l0, some (vR z), l2, l3, l4, l5] [vR z, vI x0] h Q := Rn_nx pg232 rfl rfl
theorem sX20_thrown_176 : Rn r 232 176 [some (vR z), l1, l2, l3, l4, l5] [vR z0, vI x1] h Q ↔ Rn r 232 177 [some (vR z), l1, l2, l3, l4, l5] [vR z, vR z0, vI x1] h Q := Rn_nx pg232 rfl rfl
theorem sX20_thrown_177 (hk : hK h a0 = 36) : Rn r 232 177 [l0, l1, l2, l3, l4, l5] [vR (some a0), vR z1, vI x2] h Q ↔ Rn r 232 180 [l0, l1, l2, l3, l4, l5] [vI (hI h a0 11), vR z1, vI x2] h Q := Rn_nx pg232 rfl (if_pos ⟨(hk ▸ Nat.le_refl _), (hk ▸ Nat.le_refl _)⟩)
theorem sX20_thrown_180 : Rn r 232 180 [l0, l1, some (vI x), l3, l4, l5] [vI x0, vR z1, vI x2] h Q ↔ Rn r 232 181 [l0, l1, some (vI x), l3, l4, l5] [vI x, vI x0, vR z1, vI x2] h Q := Rn_nx pg232 rfl rfl
theorem sX20_thrown_181 (hk : hK h a2 = 5) : Rn r 232 181 [l0, l1, l2, l3, l4, l5] [vI x0, vI x1, vR (some a2), vI x3] h Q ↔ Cl r 178 [vR (some a2), vI x1, vI x0] h (Kt r 232 184 [l0, l1, l2, l3, l4, l5] [vI x3] Q) := Rn_call pg232 rfl (by simp only [am_exec, am_inv, am_pop, am_lk, hk]; rfl) pg178 rfl rfl rfl
theorem sX20_thrown_184 : Rn r 232 184 [l0, l1, l2, l3, l4, l5] [vI x0, vI x1] h Q ↔ Rn r 232 185 [l0, l1, l2, l3, l4, l5] [vI (x1 ||| x0)] h Q := Rn_nx pg232 rfl rfl
theorem sX20_thrown_185 : Rn r 232 185 [l0, l1, l2, l3, l4, l5] [vI x0] h Q ↔ Rn r 232 186 [l0, l1, l2, some (vI x0), l4, l5] [] h Q := Rn_nx pg232 rfl rfl
theorem sX20_thrown_186 : Rn r 232 186 [some (vR z), l1, l2, l3, l4, l5] [] h Q ↔ Rn r 232 187 [some (vR z), l1, l2, l3, l4, l5] [vR z] h Q := Rn_nx pg232 rfl rfl
theorem sX20_thrown_187 (hk : hK h a0 = 36) : Rn r 232 187 [l0, l1, l2, l3, l4, l5] [vR (some a0)] h Q ↔ Rn r 232 190 [l0, l1, l2, l3, l4, l5] [vR (hR h a0 10)] h Q := Rn_nx pg232 rfl (if_pos ⟨(hk ▸ Nat.le_refl _), (hk ▸ Nat.le_refl _)⟩)
theorem sX20_thrown_190 : Rn r 232 190 [l0, l1, l2, l3, l4, l5] [vR z0] h Q ↔ if z0 ≠ none then Rn r 232 197 [l0, l1, l2, l3, l4, l5] [] h Q else Rn r 232 193 [l0, l1, l2, l3, l4, l5] [] h Q := Rn_if pg232 rfl rfl rfl
theorem sX20_thrown_193 : Rn r 232 193 [l0, l1, l2, some (vI x), l4, l5] [] h Q ↔ Rn r 232 194 [l0, l1, l2, some (vI x), l4, l5] [vI x] h Q := Rn_nx pg232 rfl rfl
theorem sX20_thrown_194 : Rn r 232 194 [l0, l1, l2, l3, l4, l5] [vI x0] h Q ↔ Rn r 232 226 [l0, l1, l2, l3, l4, l5] [vI x0] h Q := Rn_nx pg232 rfl rfl
theorem sX20_thrown_197 : Rn r 232 197 [some (vR z), l1, l2, l3, l4, l5] [] h Q ↔ Rn r 232 198 [some (vR z), l1, l2, l3, l4, l5] [vR z] h Q := Rn_nx pg232 rfl rfl
theorem sX20_thrown_198 (hk : hK h a0 = 36) : Rn r 232 198 [l0, l1, l2, l3, l4, l5] [vR (some a0)] h Q ↔ Rn r 232 201 [l0, l1, l2, l3, l4, l5] [vR (hR h a0 10)] h Q := Rn_nx pg232 rfl (if_pos ⟨(hk ▸ Nat.le_refl _), (hk ▸ Nat.le_refl _)⟩)
theorem sX20_thrown_201 (hk : hK h a0 = 21) : Rn r 232 201 [l0, l1, l2, l3, l4, l5] [vR (some a0)] h Q ↔ Rn r 232 204 [l0, l1, l2, l3, l4, l5] [vI (hI h a0 3)] h Q := Rn_nx pg232 rfl (if_pos ⟨(hk ▸ Nat.le_refl _), (hk ▸ Nat.le_refl _)⟩)
theorem sX20_thrown_204 : Rn r 232 204 [l0, l1, l2, l3, l4, l5] [vI x0] h Q ↔ if x0 = 0 then Rn r 232 219 [l0, l1, l2, l3, l4, l5] [] h Q else Rn r 232 207 [l0, l1, l2, l3, l4, l5] [] h Q := Rn_if pg232 rfl rfl rfl
theorem sX20_thrown_207 : Rn r 232 207 [l0, l1, l2, some (vI x), l4, l5] [] h Q ↔ Rn r 232 208 [l0, l1, l2, some (vI x), l4, l5] [vI x] h Q := Rn_nx pg232 rfl rfl
theorem sX20_thrown_208 : Rn r 232 208 [some (vR z), l1, l2, l3, l4, l5] [vI x0] h Q ↔ Rn r 232 209 [some (vR z), l1, l2, l3, l4, l5] [vR z, vI x0] h Q := Rn_nx pg232 rfl rfl
theorem sX20_thrown_209 (hk : hK h a0 = 36) : Rn r 232 209 [l0, l1, l2, l3, l4, l5] [vR (some a0), vI x1] h Q ↔ Rn r 232 212 [l0, l1, l2, l3, l4, l5] [vR (hR h a0 10), vI x1] h Q := Rn_nx pg232 rfl (if_pos ⟨(hk ▸ Nat.le_refl _), (hk ▸ Nat.le_refl _)⟩)
theorem sX20_thrown_212 (hk : hK h a0 = 21) : Rn r 232 212 [l0, l1, l2, l3, l4, l5] [vR (some a0), vI x1] h Q ↔ Rn r 232 215 [l0, l1, l2, l3, l4, l5] [vI (hI h a0 2), vI x1] h Q := Rn_nx pg232 rfl (if_pos ⟨(hk ▸ Nat.le_refl _), (hk ▸ Nat.le_refl _)⟩)
theorem sX20_thrown_215 : Rn r 232 215 [l0, l1, l2, l3, l4, l5] [vI x0, vI x1] h Q ↔ Rn r 232 216 [l0, l1, l2, l3, l4, l5] [vI (x1 ||| x0)] h Q := Rn_nx pg232 rfl rfl
theorem sX20_thrown_216 : Rn r 232 216 [l0, l1, l2, l3, l4, l5] [vI x0] h Q ↔ Rn r 232 226 [l0, l1, l2, l3, l4, l5] [vI x0] h Q := Rn_nx pg232 rfl rfl
theorem sX20_thrown_219 : Rn r 232 219 [some (vR z), l1, l2, l3, l4, l5] [] h Q ↔ Rn r 232 220 [some (vR z), l1, l2, l3, l4, l5] [vR z] h Q := Rn_nx pg232 rfl rfl
theorem sX20_thrown_220 (hk : hK h a0 = 36) : Rn r 232 220 [l0, l1, l2, l3, l4, l5] [vR (some a0)] h Q ↔ Rn r 232 223 [l0, l1, l2, l3, l4, l5] [vR (hR h a0 10)] h Q := Rn_nx pg232 rfl (if_pos ⟨(hk ▸ Nat.le_refl _), (hk ▸ Nat.le_refl _)⟩)
theorem sX20_thrown_223 (hk : hK h a0 = 21) : Rn r 232 223 [l0, l1, l2, l3, l4, l5] [vR (some a0)] h Q ↔ Rn r 232 226 [l0, l1, l2, l3, l4, l5] [vI (hI h a0 2)] h Q := Rn_nx pg232 rfl (if_pos ⟨(hk ▸ Nat.le_refl _), (hk ▸ Nat.le_refl _)⟩)
theorem sX20_thrown_226 : Rn r 232 226 [l0, l1, l2, l3, l4, l5] [vI x0] h Q ↔ Q (Sum.inl (some (vI x0))) h := Rn_end pg232 rfl rfl
/-! 233 ThrowRules$Run.thrown(LThrowRules$Unit;)I -/
theorem eX21_thrown : Cl r 233 [vR z0, vR z1] h Q ↔ Rn r 233 0 [some (vR z0), some (vR z1)] [] h Q := Cl_in pg233 rfl
theorem sX21_thrown_0 : Rn r 233 0 [some (vR z), l1] [] h Q ↔ Rn r 233 1 [some (vR z), l1] [vR z] h Q := Rn_nx pg233 rfl rfl
theorem sX21_thrown_1 (hk : hK h a0 = 37) : Rn r 233 1 [l0, l1] [vR (some a0)] h Q ↔ Rn r 233 4 [l0, l1] [vR (hR h a0 5)] h Q := Rn_nx pg233 rfl (if_pos ⟨(hk ▸ Nat.le_refl _), (hk ▸ Nat.le_refl _)⟩)
theorem sX21_thrown_4 : Rn r 233 4 [l0, some (vR z)] [vR z0] h Q ↔ Rn r 233 5 [l0, some (vR z)] [vR z, vR z0] h Q := Rn_nx pg233 rfl rfl
theorem sX21_thrown_5 (hk : hK h a1 = 21) : Rn (r + 1) 233 5 [l0, l1] [vR z0, vR (some a1)] h Q ↔ Cl r 137 [vR (some a1), vR z0] h (Kt (r + 1) 233 8 [l0, l1] [] Q) := Rn_call pg233 rfl (by simp only [am_exec, am_inv, am_pop, am_lk, hk]; rfl) pg137 rfl rfl rfl
theorem sX21_thrown_8 : Rn r 233 8 [l0, some (vR z)] [] h Q ↔ Rn r 233 9 [l0, some (vR z)] [vR z] h Q := Rn_nx pg233 rfl rfl
theorem sX21_thrown_9 : Rn r 233 9 [some (vR z), l1] [vR z0] h Q ↔ Rn r 233 10 [some (vR z), l1] [vR z, vR z0] h Q := Rn_nx pg233 rfl rfl
theorem sX21_thrown_10 (hk : hK h a0 = 37) : Rn r 233 10 [l0, l1] [vR (some a0), vR z1] h Q ↔ Rn r 233 13 [l0, l1] [vR (hR h a0 5), vR z1] h Q := Rn_nx pg233 rfl (if_pos ⟨(hk ▸ Nat.le_refl _), (hk ▸ Nat.le_refl _)⟩)
theorem sX21_thrown_13 (hk : hK h a0 = 21) : Rn r 233 13 [l0, l1] [vR (some a0), vR z1] h Q ↔ Rn r 233 16 [l0, l1] [vI (hI h a0 2), vR z1] h Q := Rn_nx pg233 rfl (if_pos ⟨(hk ▸ Nat.le_refl _), (hk ▸ Nat.le_refl _)⟩)
theorem sX21_thrown_16 : Rn r 233 16 [l0, some (vR z)] [vI x0, vR z1] h Q ↔ Rn r 233 17 [l0, some (vR z)] [vR z, vI x0, vR z1] h Q := Rn_nx pg233 rfl rfl
theorem sX21_thrown_17 : Rn r 233 17 [some (vR z), l1] [vR z0, vI x1, vR z2] h Q ↔ Rn r 233 18 [some (vR z), l1] [vR z, vR z0, vI x1, vR z2] h Q := Rn_nx pg233 rfl rfl
theorem sX21_thrown_18 (hk : hK h a0 = 37) : Rn r 233 18 [l0, l1] [vR (some a0), vR z1, vI x2, vR z3] h Q ↔ Rn r 233 21 [l0, l1] [vR (hR h a0 6), vR z1, vI x2, vR z3] h Q := Rn_nx pg233 rfl (if_pos ⟨(hk ▸ Nat.le_refl _), (hk ▸ Nat.le_refl _)⟩)
theorem sX21_thrown_21 (hk : hK h a1 = 5) : Rn r 233 21 [l0, l1] [vR z0, vR (some a1), vI x2, vR z3] h Q ↔ Cl r 49 [vR (some a1), vR z0] h (Kt r 233 24 [l0, l1] [vI x2, vR z3] Q) := Rn_call pg233 rfl (by simp only [am_exec, am_inv, am_pop, am_lk, hk]; rfl) pg49 rfl rfl rfl
theorem sX21_thrown_24 : Rn r 233 24 [some (vR z), l1] [vI x0, vI x1, vR z2] h Q ↔ Rn r 233 25 [some (vR z), l1] [vR z, vI x0, vI x1, vR z2] h Q := Rn_nx pg233 rfl rfl
theorem sX21_thrown_25 (hk : hK h a0 = 37) : Rn r 233 25 [l0, l1] [vR (some a0), vI x1, vI x2, vR z3] h Q ↔ Rn r 233 28 [l0, l1] [vI (hI h a0 1), vI x1, vI x2, vR z3] h Q := Rn_nx pg233 rfl (if_pos ⟨(hk ▸ Nat.le_refl _), (hk ▸ Nat.le_refl _)⟩)
theorem sX21_thrown_28 (hk : hK h a3 = 5) : Rn r 233 28 [l0, l1] [vI x0, vI x1, vI x2, vR (some a3)] h Q ↔ Cl r 138 [vR (some a3), vI x2, vI x1, vI x0] h (Kt r 233 31 [l0, l1] [] Q) := Rn_call pg233 rfl (by simp only [am_exec, am_inv, am_pop, am_lk, hk]; rfl) pg138 rfl rfl rfl
theorem sX21_thrown_31 : Rn r 233 31 [l0, l1] [] h Q ↔ Rn r 233 32 [l0, l1] [vI 0] h Q := Rn_nx pg233 rfl rfl
theorem sX21_thrown_32 : Rn r 233 32 [l0, l1] [vI x0] h Q ↔ Q (Sum.inl (some (vI x0))) h := Rn_end pg233 rfl rfl
/-! 234 ThrowRules$Group.thrown(LThrowRules$Unit;)I -/
theorem eX13_thrown : Cl r 234 [vR z0, vR z1] h Q ↔ Rn r 234 0 [some (vR z0), some (vR z1)] [] h Q := Cl_in pg234 rfl
theorem sX13_thrown_0 : Rn r 234 0 [some (vR z), l1] [] h Q ↔ Rn r 234 1 [some (vR z), l1] [vR z] h Q := Rn_nx pg234 rfl rfl
theorem sX13_thrown_1 (hk : hK h a0 = 38) : Rn r 234 1 [l0, l1] [vR (some a0)] h Q ↔ Rn r 234 4 [l0, l1] [vR (hR h a0 5)] h Q := Rn_nx pg234 rfl (if_pos ⟨(hk ▸ Nat.le_refl _), (hk ▸ Nat.le_refl _)⟩)
theorem sX13_thrown_4 : Rn r 234 4 [l0, some (vR z)] [vR z0] h Q ↔ Rn r 234 5 [l0, some (vR z)] [vR z, vR z0] h Q := Rn_nx pg234 rfl rfl
theorem sX13_thrown_5 (hk : hK h a1 = 21) : Rn (r + 1) 234 5 [l0, l1] [vR z0, vR (some a1)] h Q ↔ Cl r 137 [vR (some a1), vR z0] h (Kt (r + 1) 234 8 [l0, l1] [] Q) := Rn_call pg234 rfl (by simp only [am_exec, am_inv, am_pop, am_lk, hk]; rfl) pg137 rfl rfl rfl
theorem sX13_thrown_8 : Rn r 234 8 [some (vR z), l1] [] h Q ↔ Rn r 234 9 [some (vR z), l1] [vR z] h Q := Rn_nx pg234 rfl rfl
theorem sX13_thrown_9 (hk : hK h a0 = 38) : Rn r 234 9 [l0, l1] [vR (some a0)] h Q ↔ Rn r 234 12 [l0, l1] [vR (hR h a0 5)] h Q := Rn_nx pg234 rfl (if_pos ⟨(hk ▸ Nat.le_refl _), (hk ▸ Nat.le_refl _)⟩)
theorem sX13_thrown_12 (hk : hK h a0 = 21) : Rn r 234 12 [l0, l1] [vR (some a0)] h Q ↔ Rn r 234 15 [l0, l1] [vI (hI h a0 2)] h Q := Rn_nx pg234 rfl (if_pos ⟨(hk ▸ Nat.le_refl _), (hk ▸ Nat.le_refl _)⟩)
theorem sX13_thrown_15 : Rn r 234 15 [l0, l1] [vI x0] h Q ↔ Q (Sum.inl (some (vI x0))) h := Rn_end pg234 rfl rfl
/-! 235 ThrowRules$Plain.left(LThrowRules$Unit;)Z -/
theorem eX14_left : Cl r 235 [vR z0, vR z1] h Q ↔ Rn r 235 0 [some (vR z0), some (vR z1)] [] h Q := Cl_in pg235 rfl
theorem sX14_left_0 : Rn r 235 0 [some (vR z), l1] [] h Q ↔ Rn r 235 1 [some (vR z), l1] [vR z] h Q := Rn_nx pg235 rfl rfl
theorem sX14_left_1 (hk : hK h a0 = 30) : Rn r 235 1 [l0, l1] [vR (some a0)] h Q ↔ Rn r 235 4 [l0, l1] [vI (hI h a0 5)] h Q := Rn_nx pg235 rfl (if_pos ⟨(hk ▸ Nat.le_refl _), (hk ▸ Nat.le_refl _)⟩)
theorem sX14_left_4 : Rn r 235 4 [l0, l1] [vI x0] h Q ↔ Rn r 235 6 [l0, l1] [vI 8, vI x0] h Q := Rn_nx pg235 rfl rfl
theorem sX14_left_6 : Rn r 235 6 [l0, l1] [vI x0, vI x1] h Q ↔ if x1 = x0 then Rn r 235 13 [l0, l1] [] h Q else Rn r 235 9 [l0, l1] [] h Q := Rn_if pg235 rfl rfl rfl
theorem sX14_left_9 : Rn r 235 9 [l0, l1] [] h Q ↔ Rn r 235 10 [l0, l1] [vI 1] h Q := Rn_nx pg235 rfl rfl
theorem sX14_left_10 : Rn r 235 10 [l0, l1] [vI x0] h Q ↔ Rn r 235 14 [l0, l1] [vI x0] h Q := Rn_nx pg235 rfl rfl
theorem sX14_left_13 : Rn r 235 13 [l0, l1] [] h Q ↔ Rn r 235 14 [l0, l1] [vI 0] h Q := Rn_nx pg235 rfl rfl
theorem sX14_left_14 (hf : am_fit 4 x0 = true) : Rn r 235 14 [l0, l1] [vI x0] h Q ↔ Q (Sum.inl (some (vI x0))) h := Rn_end pg235 rfl (if_pos hf)
/-! 236 ThrowRules$Call.left(LThrowRules$Unit;)Z -/
theorem eX15_left : Cl r 236 [vR z0, vR z1] h Q ↔ Rn r 236 0 [some (vR z0), some (vR z1)] [] h Q := Cl_in pg236 rfl
theorem sX15_left_0 : Rn r 236 0 [l0, l1] [] h Q ↔ Rn r 236 1 [l0, l1] [vI 1] h Q := Rn_nx pg236 rfl rfl
theorem sX15_left_1 (hf : am_fit 4 x0 = true) : Rn r 236 1 [l0, l1] [vI x0] h Q ↔ Q (Sum.inl (some (vI x0))) h := Rn_end pg236 rfl (if_pos hf)
/-! 237 ThrowRules$Throw.left(LThrowRules$Unit;)Z -/
theorem eX16_left : Cl r 237 [vR z0, vR z1] h Q ↔ Rn r 237 0 [some (vR z0), some (vR z1)] [] h Q := Cl_in pg237 rfl
theorem sX16_left_0 : Rn r 237 0 [l0, l1] [] h Q ↔ Rn r 237 1 [l0, l1] [vI 0] h Q := Rn_nx pg237 rfl rfl
theorem sX16_left_1 (hf : am_fit 4 x0 = true) : Rn r 237 1 [l0, l1] [vI x0] h Q ↔ Q (Sum.inl (some (vI x0))) h := Rn_end pg237 rfl (if_pos hf)
/-! 238 ThrowRules$If.left(LThrowRules$Unit;)Z -/
theorem eX17_left : Cl r 238 [vR z0, vR z1] h Q ↔ Rn r 238 0 [some (vR z0), some (vR z1)] [] h Q := Cl_in pg238 rfl
theorem sX17_left_0 : Rn r 238 0 [some (vR z), l1] [] h Q ↔ Rn r 238 1 [some (vR z), l1] [vR z] h Q := Rn_nx pg238 rfl rfl
theorem sX17_left_1 (hk : hK h a0 = 33) : Rn r 238 1 [l0, l1] [vR (some a0)] h Q ↔ Rn r 238 4 [l0, l1] [vR (hR h a0 6)] h Q := Rn_nx pg238 rfl (if_pos ⟨(hk ▸ Nat.le_refl _), (hk ▸ Nat.le_refl _)⟩)
theorem sX17_left_4 : Rn r 238 4 [l0, l1] [vR z0] h Q ↔ if z0 = none then Rn r 238 27 [l0, l1] [] h Q else Rn r 238 7 [l0, l1] [] h Q := Rn_if pg238 rfl rfl rfl
theorem sX17_left_7 : Rn r 238 7 [some (vR z), l1] [] h Q ↔ Rn r 238 8 [some (vR z), l1] [vR z] h Q := Rn_nx pg238 rfl rfl
theorem sX17_left_8 (hk : hK h a0 = 33) : Rn r 238 8 [l0, l1] [vR (some a0)] h Q ↔ Rn r 238 11 [l0, l1] [vR (hR h a0 5)] h Q := Rn_nx pg238 rfl (if_pos ⟨(hk ▸ Nat.le_refl _), (hk ▸ Nat.le_refl _)⟩)
theorem sX17_left_11 (hk : hK h a0 = 21) : Rn r 238 11 [l0, l1] [vR (some a0)] h Q ↔ Rn r 238 14 [l0, l1] [vI (hI h a0 3)] h Q := Rn_nx pg238 rfl (if_pos ⟨(hk ▸ Nat.le_refl _), (hk ▸ Nat.le_refl _)⟩)
theorem sX17_left_14 : Rn r 238 14 [l0, l1] [vI x0] h Q ↔ if x0 ≠ 0 then Rn r 238 27 [l0, l1] [] h Q else Rn r 238 17 [l0, l1] [] h Q := Rn_if pg238 rfl rfl rfl
theorem sX17_left_17 : Rn r 238 17 [some (vR z), l1] [] h Q ↔ Rn r 238 18 [some (vR z), l1] [vR z] h Q := Rn_nx pg238 rfl rfl
theorem sX17_left_18 (hk : hK h a0 = 33) : Rn r 238 18 [l0, l1] [vR (some a0)] h Q ↔ Rn r 238 21 [l0, l1] [vR (hR h a0 6)] h Q := Rn_nx pg238 rfl (if_pos ⟨(hk ▸ Nat.le_refl _), (hk ▸ Nat.le_refl _)⟩)
theorem sX17_left_21 (hk : hK h a0 = 21) : Rn r 238 21 [l0, l1] [vR (some a0)] h Q ↔ Rn r 238 24 [l0, l1] [vI (hI h a0 3)] h Q := Rn_nx pg238 rfl (if_pos ⟨(hk ▸ Nat.le_refl _), (hk ▸ Nat.le_refl _)⟩)
theorem sX17_left_24 : Rn r 238 24 [l0, l1] [vI x0] h Q ↔ if x0 = 0 then Rn r 238 31 [l0, l1] [] h Q else Rn r 238 27 [l0, l1] [] h Q := Rn_if pg238 rfl rfl rfl
theorem sX17_left_27 : Rn r 238 27 [l0, l1] [] h Q ↔ Rn r 238 28 [l0, l1] [vI 1] h Q := Rn_nx pg238 rfl rfl
theorem sX17_left_28 : Rn r 238 28 [l0, l1] [vI x0] h Q ↔ Rn r 238 32 [l0, l1] [vI x0] h Q := Rn_nx pg238 rfl rfl
theorem sX17_left_31 : Rn r 238 31 [l0, l1] [] h Q ↔ Rn r 238 32 [l0, l1] [vI 0] h Q := Rn_nx pg238 rfl rfl
theorem sX17_left_32 (hf : am_fit 4 x0 = true) : Rn r 238 32 [l0, l1] [vI x0] h Q ↔ Q (Sum.inl (some (vI x0))) h := Rn_end pg238 rfl (if_pos hf)
/-! 239 ThrowRules$Loop.left(LThrowRules$Unit;)Z -/
theorem eX18_left : Cl r 239 [vR z0, vR z1] h Q ↔ Rn r 239 0 [some (vR z0), some (vR z1), none, none] [] h Q := Cl_in pg239 rfl
theorem sX18_left_0 : Rn r 239 0 [some (vR z), l1, l2, l3] [] h Q ↔ Rn r 239 1 [some (vR z), l1, l2, l3] [vR z] h Q := Rn_nx pg239 rfl rfl
theorem sX18_left_1 (hk : hK h a0 = 34) : Rn r 239 1 [l0, l1, l2, l3] [vR (some a0)] h Q ↔ Rn r 239 4 [l0, l1, l2, l3] [vI (hI h a0 5)] h Q := Rn_nx pg239 rfl (if_pos ⟨(hk ▸ Nat.le_refl _), (hk ▸ Nat.le_refl _)⟩)
theorem sX18_left_4 : Rn r 239 4 [l0, l1, l2, l3] [vI x0] h Q ↔ Rn r 239 5 [l0, l1, some (vI x0), l3] [] h Q := Rn_nx pg239 rfl rfl
theorem sX18_left_5 : Rn r 239 5 [l0, l1, l2, l3] [] h Q ↔ Rn r 239 6 [l0, l1, l2, l3] [vI 0] h Q := Rn_nx pg239 rfl rfl
theorem sX18_left_6 : Rn r 239 6 [l0, l1, l2, l3] [vI x0] h Q ↔ Rn r 239 7 [l0, l1, l2, some (vI x0)] [] h Q := Rn_nx pg239 rfl rfl
theorem sX18_left_7 : Rn r 239 7 [l0, l1, l2, some (vI x)] [] h Q ↔ Rn r 239 8 [l0, l1, l2, some (vI x)] [vI x] h Q := Rn_nx pg239 rfl rfl
theorem sX18_left_8 : Rn r 239 8 [some (vR z), l1, l2, l3] [vI x0] h Q ↔ Rn r 239 9 [some (vR z), l1, l2, l3] [vR z, vI x0] h Q := Rn_nx pg239 rfl rfl
theorem sX18_left_9 (hk : hK h a0 = 34) : Rn r 239 9 [l0, l1, l2, l3] [vR (some a0), vI x1] h Q ↔ Rn r 239 12 [l0, l1, l2, l3] [vR (hR h a0 7), vI x1] h Q := Rn_nx pg239 rfl (if_pos ⟨(hk ▸ Nat.le_refl _), (hk ▸ Nat.le_refl _)⟩)
theorem sX18_left_12 (hk : hK h a0 = 4) : Rn r 239 12 [l0, l1, l2, l3] [vR (some a0), vI x1] h Q ↔ Cl r 34 [vR (some a0)] h (Kt r 239 15 [l0, l1, l2, l3] [vI x1] Q) := Rn_call pg239 rfl (by simp only [am_exec, am_inv, am_pop, am_lk, hk]; rfl) pg34 rfl rfl rfl
theorem sX18_left_15 : Rn r 239 15 [l0, l1, l2, l3] [vI x0, vI x1] h Q ↔ if x0 ≤ x1 then Rn r 239 49 [l0, l1, l2, l3] [] h Q else Rn r 239 18 [l0, l1, l2, l3] [] h Q := Rn_if pg239 rfl rfl rfl
theorem sX18_left_18 : Rn r 239 18 [l0, l1, some (vI x), l3] [] h Q ↔ Rn r 239 19 [l0, l1, some (vI x), l3] [vI x] h Q := Rn_nx pg239 rfl rfl
theorem sX18_left_19 : Rn r 239 19 [some (vR z), l1, l2, l3] [vI x0] h Q ↔ Rn r 239 20 [some (vR z), l1, l2, l3] [vR z, vI x0] h Q := Rn_nx pg239 rfl rfl
theorem sX18_left_20 (hk : hK h a0 = 34) : Rn r 239 20 [l0, l1, l2, l3] [vR (some a0), vI x1] h Q ↔ Rn r 239 23 [l0, l1, l2, l3] [vR (hR h a0 7), vI x1] h Q := Rn_nx pg239 rfl (if_pos ⟨(hk ▸ Nat.le_refl _), (hk ▸ Nat.le_refl _)⟩)
theorem sX18_left_23 : Rn r 239 23 [l0, l1, l2, some (vI x)] [vR z0, vI x1] h Q ↔ Rn r 239 24 [l0, l1, l2, some (vI x)] [vI x, vR z0, vI x1] h Q := Rn_nx pg239 rfl rfl
theorem sX18_left_24 (hk : hK h a1 = 4) : Rn r 239 24 [l0, l1, l2, l3] [vI x0, vR (some a1), vI x2] h Q ↔ Cl r 43 [vR (some a1), vI x0] h (Kt r 239 27 [l0, l1, l2, l3] [vI x2] Q) := Rn_call pg239 rfl (by simp only [am_exec, am_inv, am_pop, am_lk, hk]; rfl) pg43 rfl rfl rfl
theorem sX18_left_27_n : Rn r 239 27 [l0, l1, l2, l3] [vR none, vI x1] h Q ↔ Rn r 239 30 [l0, l1, l2, l3] [vR none, vI x1] h Q := Rn_nx pg239 rfl rfl
theorem sX18_left_27 (hk : hK h a0 ∈ [35]) : Rn r 239 27 [l0, l1, l2, l3] [vR (some a0), vI x1] h Q ↔ Rn r 239 30 [l0, l1, l2, l3] [vR (some a0), vI x1] h Q := Rn_nx pg239 rfl (if_pos hk)
theorem sX18_left_30 (hk : hK h a0 = 35) : Rn r 239 30 [l0, l1, l2, l3] [vR (some a0), vI x1] h Q ↔ Cl r 287 [vR (some a0)] h (Kt r 239 33 [l0, l1, l2, l3] [vI x1] Q) := Rn_call pg239 rfl (by simp only [am_exec, am_inv, am_pop, am_lk, hk]; rfl) pg287 rfl rfl rfl
theorem sX18_left_33 : Rn r 239 33 [l0, l1, l2, l3] [vI x0, vI x1] h Q ↔ if x0 ≠ 0 then Rn r 239 40 [l0, l1, l2, l3] [vI x1] h Q else Rn r 239 36 [l0, l1, l2, l3] [vI x1] h Q := Rn_if pg239 rfl rfl rfl
theorem sX18_left_36 : Rn r 239 36 [l0, l1, l2, l3] [vI x0] h Q ↔ Rn r 239 37 [l0, l1, l2, l3] [vI 1, vI x0] h Q := Rn_nx pg239 rfl rfl
theorem sX18_left_37 : Rn r 239 37 [l0, l1, l2, l3] [vI x0, vI x1] h Q ↔ Rn r 239 41 [l0, l1, l2, l3] [vI x0, vI x1] h Q := Rn_nx pg239 rfl rfl
theorem sX18_left_40 : Rn r 239 40 [l0, l1, l2, l3] [vI x0] h Q ↔ Rn r 239 41 [l0, l1, l2, l3] [vI 0, vI x0] h Q := Rn_nx pg239 rfl rfl
theorem sX18_left_41 : Rn r 239 41 [l0, l1, l2, l3] [vI x0, vI x1] h Q ↔ Rn r 239 42 [l0, l1, l2, l3] [vI (x1 ||| x0)] h Q := Rn_nx pg239 rfl rfl
theorem sX18_left_42 : Rn r 239 42 [l0, l1, l2, l3] [vI x0] h Q ↔ Rn r 239 43 [l0, l1, some (vI x0), l3] [] h Q := Rn_nx pg239 rfl rfl
theorem sX18_left_43 : Rn r 239 43 [l0, l1, l2, some (vI x)] [] h Q ↔ Rn r 239 46 [l0, l1, l2, some (vI (x + 1))] [] h Q := Rn_nx pg239 rfl rfl
theorem sX18_left_46 : Rn r 239 46 [l0, l1, l2, l3] [] h Q ↔ Rn r 239 7 [l0, l1, l2, l3] [] h Q := Rn_nx pg239 rfl rfl
theorem sX18_left_49 : Rn r 239 49 [l0, l1, some (vI x), l3] [] h Q ↔ Rn r 239 50 [l0, l1, some (vI x), l3] [vI x] h Q := Rn_nx pg239 rfl rfl
theorem sX18_left_50 (hf : am_fit 4 x0 = true) : Rn r 239 50 [l0, l1, l2, l3] [vI x0] h Q ↔ Q (Sum.inl (some (vI x0))) h := Rn_end pg239 rfl (if_pos hf)
/-! 240 ThrowRules$Break.left(LThrowRules$Unit;)Z -/
theorem eX19_left : Cl r 240 [vR z0, vR z1] h Q ↔ Rn r 240 0 [some (vR z0), some (vR z1)] [] h Q := Cl_in pg240 rfl
theorem sX19_left_0 : Rn r 240 0 [l0, l1] [] h Q ↔ Rn r 240 1 [l0, l1] [vI 0] h Q := Rn_nx pg240 rfl rfl
theorem sX19_left_1 (hf : am_fit 4 x0 = true) : Rn r 240 1 [l0, l1] [vI x0] h Q ↔ Q (Sum.inl (some (vI x0))) h := Rn_end pg240 rfl (if_pos hf)
/-! 241 ThrowRules$Try.left(LThrowRules$Unit;)Z -/
theorem eX20_left : Cl r 241 [vR z0, vR z1] h Q ↔ Rn r 241 0 [some (vR z0), some (vR z1), none, none] [] h Q := Cl_in pg241 rfl
theorem sX20_left_0 : Rn r 241 0 [some (vR z), l1, l2, l3] [] h Q ↔ Rn r 241 1 [some (vR z), l1, l2, l3] [vR z] h Q := Rn_nx pg241 rfl rfl
theorem sX20_left_1 (hk : hK h a0 = 36) : Rn r 241 1 [l0, l1, l2, l3] [vR (some a0)] h Q ↔ Rn r 241 4 [l0, l1, l2, l3] [vR (hR h a0 8)] h Q := Rn_nx pg241 rfl (if_pos ⟨(hk ▸ Nat.le_refl _), (hk ▸ Nat.le_refl _)⟩)
theorem sX20_left_4 (hk : hK h a0 = 21) : Rn r 241 4 [l0, l1, l2, l3] [vR (some a0)] h Q ↔ Rn r 241 7 [l0, l1, l2, l3] [vI (hI h a0 3)] h Q := Rn_nx pg241 rfl (if_pos ⟨(hk ▸ Nat.le_refl _), (hk ▸ Nat.le_refl _)⟩)
theorem sX20_left_7 : Rn r 241 7 [l0, l1, l2, l3] [vI x0] h Q ↔ Rn r 241 8 [l0, l1, some (vI x0), l3] [] h Q := Rn_nx pg241 rfl rfl
theorem sX20_left_8 : Rn r 241 8 [l0, l1, l2, l3] [] h Q ↔ Rn r 241 9 [l0, l1, l2, l3] [vI 0] h Q := Rn_nx pg241 rfl rfl
theorem sX20_left_9 : Rn r 241 9 [l0, l1, l2, l3] [vI x0] h Q ↔ Rn r 241 10 [l0, l1, l2, some (vI x0)] [] h Q := Rn_nx pg241 rfl rfl
theorem sX20_left_10 : Rn r 241 10 [l0, l1, l2, some (vI x)] [] h Q ↔ Rn r 241 11 [l0, l1, l2, some (vI x)] [vI x] h Q := Rn_nx pg241 rfl rfl
theorem sX20_left_11 : Rn r 241 11 [some (vR z), l1, l2, l3] [vI x0] h Q ↔ Rn r 241 12 [some (vR z), l1, l2, l3] [vR z, vI x0] h Q := Rn_nx pg241 rfl rfl
theorem sX20_left_12 (hk : hK h a0 = 36) : Rn r 241 12 [l0, l1, l2, l3] [vR (some a0), vI x1] h Q ↔ Rn r 241 15 [l0, l1, l2, l3] [vR (hR h a0 9), vI x1] h Q := Rn_nx pg241 rfl (if_pos ⟨(hk ▸ Nat.le_refl _), (hk ▸ Nat.le_refl _)⟩)
theorem sX20_left_15 (hk : hK h a0 = 4) : Rn r 241 15 [l0, l1, l2, l3] [vR (some a0), vI x1] h Q ↔ Cl r 34 [vR (some a0)] h (Kt r 241 18 [l0, l1, l2, l3] [vI x1] Q) := Rn_call pg241 rfl (by simp only [am_exec, am_inv, am_pop, am_lk, hk]; rfl) pg34 rfl rfl rfl
theorem sX20_left_18 : Rn r 241 18 [l0, l1, l2, l3] [vI x0, vI x1] h Q ↔ if x0 ≤ x1 then Rn r 241 47 [l0, l1, l2, l3] [] h Q else Rn r 241 21 [l0, l1, l2, l3] [] h Q := Rn_if pg241 rfl rfl rfl
theorem sX20_left_21 : Rn r 241 21 [l0, l1, some (vI x), l3] [] h Q ↔ Rn r 241 22 [l0, l1, some (vI x), l3] [vI x] h Q := Rn_nx pg241 rfl rfl
theorem sX20_left_22 : Rn r 241 22 [some (vR z), l1, l2, l3] [vI x0] h Q ↔ Rn r 241 23 [some (vR z), l1, l2, l3] [vR z, vI x0] h Q := Rn_nx pg241 rfl rfl
theorem sX20_left_23 (hk : hK h a0 = 36) : Rn r 241 23 [l0, l1, l2, l3] [vR (some a0), vI x1] h Q ↔ Rn r 241 26 [l0, l1, l2, l3] [vR (hR h a0 9), vI x1] h Q := Rn_nx pg241 rfl (if_pos ⟨(hk ▸ Nat.le_refl _), (hk ▸ Nat.le_refl _)⟩)
theorem sX20_left_26 : Rn r 241 26 [l0, l1, l2, some (vI x)] [vR z0, vI x1] h Q ↔ Rn r 241 27 [l0, l1, l2, some (vI x)] [vI x, vR z0, vI x1] h Q := Rn_nx pg241 rfl rfl
theorem sX20_left_27 (hk : hK h a1 = 4) : Rn r 241 27 [l0, l1, l2, l3] [vI x0, vR (some a1), vI x2] h Q ↔ Cl r 43 [vR (some a1), vI x0] h (Kt r 241 30 [l0, l1, l2, l3] [vI x2] Q) := Rn_call pg241 rfl (by simp only [am_exec, am_inv, am_pop, am_lk, hk]; rfl) pg43 rfl rfl rfl
theorem sX20_left_30_n : Rn r 241 30 [l0, l1, l2, l3] [vR none, vI x1] h Q ↔ Rn r 241 33 [l0, l1, l2, l3] [vR none, vI x1] h Q := Rn_nx pg241 rfl rfl
theorem sX20_left_30 (hk : hK h a0 ∈ [22]) : Rn r 241 30 [l0, l1, l2, l3] [vR (some a0), vI x1] h Q ↔ Rn r 241 33 [l0, l1, l2, l3] [vR (some a0), vI x1] h Q := Rn_nx pg241 rfl (if_pos hk)
theorem sX20_left_33 (hk : hK h a0 = 22) : Rn r 241 33 [l0, l1, l2, l3] [vR (some a0), vI x1] h Q ↔ Rn r 241 36 [l0, l1, l2, l3] [vR (hR h a0 3), vI x1] h Q := Rn_nx pg241 rfl (if_pos ⟨(hk ▸ Nat.le_refl _), (hk ▸ Nat.le_refl _)⟩)
theorem sX20_left_36 (hk : hK h a0 = 21) : Rn r 241 36 [l0, l1, l2, l3] [vR (some a0), vI x1] h Q ↔ Rn r 241 39 [l0, l1, l2, l3] [vI (hI h a0 3), vI x1] h Q := Rn_nx pg241 rfl (if_pos ⟨(hk ▸ Nat.le_refl _), (hk ▸ Nat.le_refl _)⟩)
theorem sX20_left_39 : Rn r 241 39 [l0, l1, l2, l3] [vI x0, vI x1] h Q ↔ Rn r 241 40 [l0, l1, l2, l3] [vI (x1 ||| x0)] h Q := Rn_nx pg241 rfl rfl
theorem sX20_left_40 : Rn r 241 40 [l0, l1, l2, l3] [vI x0] h Q ↔ Rn r 241 41 [l0, l1, some (vI x0), l3] [] h Q := Rn_nx pg241 rfl rfl
theorem sX20_left_41 : Rn r 241 41 [l0, l1, l2, some (vI x)] [] h Q ↔ Rn r 241 44 [l0, l1, l2, some (vI (x + 1))] [] h Q := Rn_nx pg241 rfl rfl
theorem sX20_left_44 : Rn r 241 44 [l0, l1, l2, l3] [] h Q ↔ Rn r 241 10 [l0, l1, l2, l3] [] h Q := Rn_nx pg241 rfl rfl
theorem sX20_left_47 : Rn r 241 47 [l0, l1, some (vI x), l3] [] h Q ↔ Rn r 241 48 [l0, l1, some (vI x), l3] [vI x] h Q := Rn_nx pg241 rfl rfl
theorem sX20_left_48 : Rn r 241 48 [l0, l1, l2, l3] [vI x0] h Q ↔ if x0 = 0 then Rn r 241 72 [l0, l1, l2, l3] [] h Q else Rn r 241 51 [l0, l1, l2, l3] [] h Q := Rn_if pg241 rfl rfl rfl
theorem sX20_left_51 : Rn r 241 51 [some (vR z), l1, l2, l3] [] h Q ↔ Rn r 241 52 [some (vR z), l1, l2, l3] [vR z] h Q := Rn_nx pg241 rfl rfl
theorem sX20_left_52 (hk : hK h a0 = 36) : Rn r 241 52 [l0, l1, l2, l3] [vR (some a0)] h Q ↔ Rn r 241 55 [l0, l1, l2, l3] [vR (hR h a0 10)] h Q := Rn_nx pg241 rfl (if_pos ⟨(hk ▸ Nat.le_refl _), (hk ▸ Nat.le_refl _)⟩)
theorem sX20_left_55 : Rn r 241 55 [l0, l1, l2, l3] [vR z0] h Q ↔ if z0 = none then Rn r 241 68 [l0, l1, l2, l3] [] h Q else Rn r 241 58 [l0, l1, l2, l3] [] h Q := Rn_if pg241 rfl rfl rfl
theorem sX20_left_58 : Rn r 241 58 [some (vR z), l1, l2, l3] [] h Q ↔ Rn r 241 59 [some (vR z), l1, l2, l3] [vR z] h Q := Rn_nx pg241 rfl rfl
theorem sX20_left_59 (hk : hK h a0 = 36) : Rn r 241 59 [l0, l1, l2, l3] [vR (some a0)] h Q ↔ Rn r 241 62 [l0, l1, l2, l3] [vR (hR h a0 10)] h Q := Rn_nx pg241 rfl (if_pos ⟨(hk ▸ Nat.le_refl _), (hk ▸ Nat.le_refl _)⟩)
theorem sX20_left_62 (hk : hK h a0 = 21) : Rn r 241 62 [l0, l1, l2, l3] [vR (some a0)] h Q ↔ Rn r 241 65 [l0, l1, l2, l3] [vI (hI h a0 3)] h Q := Rn_nx pg241 rfl (if_pos ⟨(hk ▸ Nat.le_refl _), (hk ▸ Nat.le_refl _)⟩)
theorem sX20_left_65 : Rn r 241 65 [l0, l1, l2, l3] [vI x0] h Q ↔ if x0 = 0 then Rn r 241 72 [l0, l1, l2, l3] [] h Q else Rn r 241 68 [l0, l1, l2, l3] [] h Q := Rn_if pg241 rfl rfl rfl
theorem sX20_left_68 : Rn r 241 68 [l0, l1, l2, l3] [] h Q ↔ Rn r 241 69 [l0, l1, l2, l3] [vI 1] h Q := Rn_nx pg241 rfl rfl
theorem sX20_left_69 : Rn r 241 69 [l0, l1, l2, l3] [vI x0] h Q ↔ Rn r 241 73 [l0, l1, l2, l3] [vI x0] h Q := Rn_nx pg241 rfl rfl
theorem sX20_left_72 : Rn r 241 72 [l0, l1, l2, l3] [] h Q ↔ Rn r 241 73 [l0, l1, l2, l3] [vI 0] h Q := Rn_nx pg241 rfl rfl
theorem sX20_left_73 (hf : am_fit 4 x0 = true) : Rn r 241 73 [l0, l1, l2, l3] [vI x0] h Q ↔ Q (Sum.inl (some (vI x0))) h := Rn_end pg241 rfl (if_pos hf)
/-! 242 ThrowRules$Run.left(LThrowRules$Unit;)Z -/
theorem eX21_left : Cl r 242 [vR z0, vR z1] h Q ↔ Rn r 242 0 [some (vR z0), some (vR z1)] [] h Q := Cl_in pg242 rfl
theorem sX21_left_0 : Rn r 242 0 [l0, l1] [] h Q ↔ Rn r 242 1 [l0, l1] [vI 1] h Q := Rn_nx pg242 rfl rfl
theorem sX21_left_1 (hf : am_fit 4 x0 = true) : Rn r 242 1 [l0, l1] [vI x0] h Q ↔ Q (Sum.inl (some (vI x0))) h := Rn_end pg242 rfl (if_pos hf)
/-! 243 ThrowRules$Group.left(LThrowRules$Unit;)Z -/
theorem eX13_left : Cl r 243 [vR z0, vR z1] h Q ↔ Rn r 243 0 [some (vR z0), some (vR z1)] [] h Q := Cl_in pg243 rfl
theorem sX13_left_0 : Rn r 243 0 [some (vR z), l1] [] h Q ↔ Rn r 243 1 [some (vR z), l1] [vR z] h Q := Rn_nx pg243 rfl rfl
theorem sX13_left_1 (hk : hK h a0 = 38) : Rn r 243 1 [l0, l1] [vR (some a0)] h Q ↔ Rn r 243 4 [l0, l1] [vR (hR h a0 5)] h Q := Rn_nx pg243 rfl (if_pos ⟨(hk ▸ Nat.le_refl _), (hk ▸ Nat.le_refl _)⟩)
theorem sX13_left_4 (hk : hK h a0 = 21) : Rn r 243 4 [l0, l1] [vR (some a0)] h Q ↔ Rn r 243 7 [l0, l1] [vI (hI h a0 3)] h Q := Rn_nx pg243 rfl (if_pos ⟨(hk ▸ Nat.le_refl _), (hk ▸ Nat.le_refl _)⟩)
theorem sX13_left_7 (hf : am_fit 4 x0 = true) : Rn r 243 7 [l0, l1] [vI x0] h Q ↔ Q (Sum.inl (some (vI x0))) h := Rn_end pg243 rfl (if_pos hf)
/-! 244 ThrowRulesModel.ahead(I)I -/
theorem eX6_ahead : Cl r 244 [vR z0, vI x1] h Q ↔ Rn r 244 0 [some (vR z0), some (vI x1), none, none] [] h Q := Cl_in pg244 rfl
theorem sX6_ahead_0 : Rn r 244 0 [l0, l1, l2, l3] [] h Q ↔ Rn r 244 1 [l0, l1, l2, l3] [vI 0] h Q := Rn_nx pg244 rfl rfl
theorem sX6_ahead_1 : Rn r 244 1 [l0, l1, l2, l3] [vI x0] h Q ↔ Rn r 244 2 [l0, l1, some (vI x0), l3] [] h Q := Rn_nx pg244 rfl rfl
theorem sX6_ahead_2 : Rn r 244 2 [l0, some (vI x), l2, l3] [] h Q ↔ Rn r 244 3 [l0, some (vI x), l2, l3] [vI x] h Q := Rn_nx pg244 rfl rfl
theorem sX6_ahead_3 : Rn r 244 3 [l0, l1, l2, l3] [vI x0] h Q ↔ Rn r 244 4 [l0, l1, l2, l3] [vI 4, vI x0] h Q := Rn_nx pg244 rfl rfl
theorem sX6_ahead_4 (hz : ¬ x0 = 0) : Rn r 244 4 [l0, l1, l2, l3] [vI x0, vI x1] h Q ↔ Rn r 244 5 [l0, l1, l2, l3] [vI (x1 / x0)] h Q := Rn_nx pg244 rfl (if_neg hz)
theorem sX6_ahead_5 : Rn r 244 5 [l0, l1, l2, l3] [vI x0] h Q ↔ Rn r 244 6 [l0, l1, l2, l3] [vI 4, vI x0] h Q := Rn_nx pg244 rfl rfl
theorem sX6_ahead_6 : Rn r 244 6 [l0, l1, l2, l3] [vI x0, vI x1] h Q ↔ Rn r 244 7 [l0, l1, l2, l3] [vI (x1 * x0)] h Q := Rn_nx pg244 rfl rfl
theorem sX6_ahead_7 : Rn r 244 7 [l0, l1, l2, l3] [vI x0] h Q ↔ Rn r 244 8 [l0, l1, l2, some (vI x0)] [] h Q := Rn_nx pg244 rfl rfl
theorem sX6_ahead_8 : Rn r 244 8 [l0, l1, l2, some (vI x)] [] h Q ↔ Rn r 244 9 [l0, l1, l2, some (vI x)] [vI x] h Q := Rn_nx pg244 rfl rfl
theorem sX6_ahead_9 : Rn r 244 9 [l0, some (vI x), l2, l3] [vI x0] h Q ↔ Rn r 244 10 [l0, some (vI x), l2, l3] [vI x, vI x0] h Q := Rn_nx pg244 rfl rfl
theorem sX6_ahead_10 : Rn r 244 10 [l0, l1, l2, l3] [vI x0, vI x1] h Q ↔ if x0 ≤ x1 then Rn r 244 27 [l0, l1, l2, l3] [] h Q else Rn r 244 13 [l0, l1, l2, l3] [] h Q := Rn_if pg244 rfl rfl rfl
theorem sX6_ahead_13 : Rn r 244 13 [l0, l1, some (vI x), l3] [] h Q ↔ Rn r 244 14 [l0, l1, some (vI x), l3] [vI x] h Q := Rn_nx pg244 rfl rfl
theorem sX6_ahead_14 : Rn r 244 14 [some (vR z), l1, l2, l3] [vI x0] h Q ↔ Rn r 244 15 [some (vR z), l1, l2, l3] [vR z, vI x0] h Q := Rn_nx pg244 rfl rfl
theorem sX6_ahead_15 : Rn r 244 15 [l0, l1, l2, some (vI x)] [vR z0, vI x1] h Q ↔ Rn r 244 16 [l0, l1, l2, some (vI x)] [vI x, vR z0, vI x1] h Q := Rn_nx pg244 rfl rfl
theorem sX6_ahead_16 (hk : hK h a1 = 15) : Rn r 244 16 [l0, l1, l2, l3] [vI x0, vR (some a1), vI x2] h Q ↔ Cl r 161 [vR (some a1), vI x0] h (Kt r 244 19 [l0, l1, l2, l3] [vI x2] Q) := Rn_call pg244 rfl (by simp only [am_exec, am_inv, am_pop, am_lk, hk]; rfl) pg161 rfl rfl rfl
theorem sX6_ahead_19 : Rn r 244 19 [l0, l1, l2, l3] [vI x0, vI x1] h Q ↔ Rn r 244 20 [l0, l1, l2, l3] [vI (x1 ||| x0)] h Q := Rn_nx pg244 rfl rfl
theorem sX6_ahead_20 : Rn r 244 20 [l0, l1, l2, l3] [vI x0] h Q ↔ Rn r 244 21 [l0, l1, some (vI x0), l3] [] h Q := Rn_nx pg244 rfl rfl
theorem sX6_ahead_21 : Rn r 244 21 [l0, l1, l2, some (vI x)] [] h Q ↔ Rn r 244 24 [l0, l1, l2, some (vI (x + 1))] [] h Q := Rn_nx pg244 rfl rfl
theorem sX6_ahead_24 : Rn r 244 24 [l0, l1, l2, l3] [] h Q ↔ Rn r 244 8 [l0, l1, l2, l3] [] h Q := Rn_nx pg244 rfl rfl
theorem sX6_ahead_27 : Rn r 244 27 [l0, l1, some (vI x), l3] [] h Q ↔ Rn r 244 28 [l0, l1, some (vI x), l3] [vI x] h Q := Rn_nx pg244 rfl rfl
theorem sX6_ahead_28 : Rn r 244 28 [l0, l1, l2, l3] [vI x0] h Q ↔ Q (Sum.inl (some (vI x0))) h := Rn_end pg244 rfl rfl
/-! 245 jdk/internal/util/ArraysSupport.newLength(III)I -/
theorem eJ8_newLength : Cl r 245 [vI x0, vI x1, vI x2] h Q ↔ Rn r 245 0 [some (vI x0), some (vI x1), some (vI x2), none] [] h Q := Cl_in pg245 rfl
theorem sJ8_newLength_0 : Rn r 245 0 [some (vI x), l1, l2, l3] [] h Q ↔ Rn r 245 1 [some (vI x), l1, l2, l3] [vI x] h Q := Rn_nx pg245 rfl rfl
theorem sJ8_newLength_1 : Rn r 245 1 [l0, some (vI x), l2, l3] [vI x0] h Q ↔ Rn r 245 2 [l0, some (vI x), l2, l3] [vI x, vI x0] h Q := Rn_nx pg245 rfl rfl
theorem sJ8_newLength_2 : Rn r 245 2 [l0, l1, some (vI x), l3] [vI x0, vI x1] h Q ↔ Rn r 245 3 [l0, l1, some (vI x), l3] [vI x, vI x0, vI x1] h Q := Rn_nx pg245 rfl rfl
theorem sJ8_newLength_3 : Rn r 245 3 [l0, l1, l2, l3] [vI x0, vI x1, vI x2] h Q ↔ Cl r 266 [vI x1, vI x0] h (Kt r 245 6 [l0, l1, l2, l3] [vI x2] Q) := Rn_call pg245 rfl rfl pg266 rfl rfl rfl
theorem sJ8_newLength_6 : Rn r 245 6 [l0, l1, l2, l3] [vI x0, vI x1] h Q ↔ Rn r 245 7 [l0, l1, l2, l3] [vI (x1 + x0)] h Q := Rn_nx pg245 rfl rfl
theorem sJ8_newLength_7 : Rn r 245 7 [l0, l1, l2, l3] [vI x0] h Q ↔ Rn r 245 8 [l0, l1, l2, some (vI x0)] [] h Q := Rn_nx pg245 rfl rfl
theorem sJ8_newLength_8 : Rn r 245 8 [l0, l1, l2, l3] [] h Q ↔ Rn r 245 9 [l0, l1, l2, l3] [vI 0] h Q := Rn_nx pg245 rfl rfl
theorem sJ8_newLength_9 : Rn r 245 9 [l0, l1, l2, some (vI x)] [vI x0] h Q ↔ Rn r 245 10 [l0, l1, l2, some (vI x)] [vI x, vI x0] h Q := Rn_nx pg245 rfl rfl
theorem sJ8_newLength_10 : Rn r 245 10 [l0, l1, l2, l3] [vI x0, vI x1] h Q ↔ if x0 ≤ x1 then Rn r 245 21 [l0, l1, l2, l3] [] h Q else Rn r 245 13 [l0, l1, l2, l3] [] h Q := Rn_if pg245 rfl rfl rfl
theorem sJ8_newLength_13 : Rn r 245 13 [l0, l1, l2, some (vI x)] [] h Q ↔ Rn r 245 14 [l0, l1, l2, some (vI x)] [vI x] h Q := Rn_nx pg245 rfl rfl
theorem sJ8_newLength_14 : Rn r 245 14 [l0, l1, l2, l3] [vI x0] h Q ↔ Rn r 245 16 [l0, l1, l2, l3] [vI 2147483639, vI x0] h Q := Rn_nx pg245 rfl rfl
theorem sJ8_newLength_16 : Rn r 245 16 [l0, l1, l2, l3] [vI x0, vI x1] h Q ↔ if x0 < x1 then Rn r 245 21 [l0, l1, l2, l3] [] h Q else Rn r 245 19 [l0, l1, l2, l3] [] h Q := Rn_if pg245 rfl rfl rfl
theorem sJ8_newLength_19 : Rn r 245 19 [l0, l1, l2, some (vI x)] [] h Q ↔ Rn r 245 20 [l0, l1, l2, some (vI x)] [vI x] h Q := Rn_nx pg245 rfl rfl
theorem sJ8_newLength_20 : Rn r 245 20 [l0, l1, l2, l3] [vI x0] h Q ↔ Q (Sum.inl (some (vI x0))) h := Rn_end pg245 rfl rfl
theorem sJ8_newLength_21 : Rn r 245 21 [some (vI x), l1, l2, l3] [] h Q ↔ Rn r 245 22 [some (vI x), l1, l2, l3] [vI x] h Q := Rn_nx pg245 rfl rfl
theorem sJ8_newLength_22 : Rn r 245 22 [l0, some (vI x), l2, l3] [vI x0] h Q ↔ Rn r 245 23 [l0, some (vI x), l2, l3] [vI x, vI x0] h Q := Rn_nx pg245 rfl rfl
theorem sJ8_newLength_26 : Rn r 245 26 [l0, l1, l2, l3] [vI x0] h Q ↔ Q (Sum.inl (some (vI x0))) h := Rn_end pg245 rfl rfl
/-! 246 java/lang/Math.min(II)I -/
theorem eJ9_min : Cl r 246 [vI x0, vI x1] h Q ↔ Rn r 246 0 [some (vI x0), some (vI x1)] [] h Q := Cl_in pg246 rfl
theorem sJ9_min_0 : Rn r 246 0 [some (vI x), l1] [] h Q ↔ Rn r 246 1 [some (vI x), l1] [vI x] h Q := Rn_nx pg246 rfl rfl
theorem sJ9_min_1 : Rn r 246 1 [l0, some (vI x)] [vI x0] h Q ↔ Rn r 246 2 [l0, some (vI x)] [vI x, vI x0] h Q := Rn_nx pg246 rfl rfl
theorem sJ9_min_2 : Rn r 246 2 [l0, l1] [vI x0, vI x1] h Q ↔ if x0 < x1 then Rn r 246 9 [l0, l1] [] h Q else Rn r 246 5 [l0, l1] [] h Q := Rn_if pg246 rfl rfl rfl
theorem sJ9_min_5 : Rn r 246 5 [some (vI x), l1] [] h Q ↔ Rn r 246 6 [some (vI x), l1] [vI x] h Q := Rn_nx pg246 rfl rfl
theorem sJ9_min_6 : Rn r 246 6 [l0, l1] [vI x0] h Q ↔ Rn r 246 10 [l0, l1] [vI x0] h Q := Rn_nx pg246 rfl rfl
theorem sJ9_min_9 : Rn r 246 9 [l0, some (vI x)] [] h Q ↔ Rn r 246 10 [l0, some (vI x)] [vI x] h Q := Rn_nx pg246 rfl rfl
theorem sJ9_min_10 : Rn r 246 10 [l0, l1] [vI x0] h Q ↔ Q (Sum.inl (some (vI x0))) h := Rn_end pg246 rfl rfl
/-! 247 java/lang/AbstractStringBuilder.length()I -/
theorem eJ22_length : Cl r 247 [vR z0] h Q ↔ Rn r 247 0 [some (vR z0)] [] h Q := Cl_in pg247 rfl
theorem sJ22_length_0 : Rn r 247 0 [some (vR z)] [] h Q ↔ Rn r 247 1 [some (vR z)] [vR z] h Q := Rn_nx pg247 rfl rfl
theorem sJ22_length_1 (hk : hK h a0 = 16) : Rn r 247 1 [l0] [vR (some a0)] h Q ↔ Rn r 247 4 [l0] [vI (hI h a0 3)] h Q := Rn_nx pg247 rfl (if_pos ⟨(hk ▸ Nat.le_refl _), (hk ▸ Nat.le_refl _)⟩)
theorem sJ22_length_4 : Rn r 247 4 [l0] [vI x0] h Q ↔ Q (Sum.inl (some (vI x0))) h := Rn_end pg247 rfl rfl
/-! 248 java/util/Arrays.copyOfRangeByte([BII)[B -/
theorem eJ10_copyOfRangeByte : Cl r 248 [vR z0, vI x1, vI x2] h Q ↔ Rn r 248 0 [some (vR z0), some (vI x1), some (vI x2), none, none] [] h Q := Cl_in pg248 rfl
theorem sJ10_copyOfRangeByte_0 : Rn r 248 0 [l0, some (vI x), l2, l3, l4] [] h Q ↔ Rn r 248 1 [l0, some (vI x), l2, l3, l4] [vI x] h Q := Rn_nx pg248 rfl rfl
theorem sJ10_copyOfRangeByte_1 : Rn r 248 1 [l0, l1, some (vI x), l3, l4] [vI x0] h Q ↔ Rn r 248 2 [l0, l1, some (vI x), l3, l4] [vI x, vI x0] h Q := Rn_nx pg248 rfl rfl
theorem sJ10_copyOfRangeByte_2 : Rn r 248 2 [l0, l1, l2, l3, l4] [vI x0, vI x1] h Q ↔ Cl r 288 [vI x1, vI x0] h (Kt r 248 5 [l0, l1, l2, l3, l4] [] Q) := Rn_call pg248 rfl rfl pg288 rfl rfl rfl
theorem sJ10_copyOfRangeByte_5 : Rn r 248 5 [l0, l1, some (vI x), l3, l4] [] h Q ↔ Rn r 248 6 [l0, l1, some (vI x), l3, l4] [vI x] h Q := Rn_nx pg248 rfl rfl
theorem sJ10_copyOfRangeByte_6 : Rn r 248 6 [l0, some (vI x), l2, l3, l4] [vI x0] h Q ↔ Rn r 248 7 [l0, some (vI x), l2, l3, l4] [vI x, vI x0] h Q := Rn_nx pg248 rfl rfl
theorem sJ10_copyOfRangeByte_7 : Rn r 248 7 [l0, l1, l2, l3, l4] [vI x0, vI x1] h Q ↔ Rn r 248 8 [l0, l1, l2, l3, l4] [vI (x1 - x0)] h Q := Rn_nx pg248 rfl rfl
theorem sJ10_copyOfRangeByte_8 : Rn r 248 8 [l0, l1, l2, l3, l4] [vI x0] h Q ↔ Rn r 248 9 [l0, l1, l2, some (vI x0), l4] [] h Q := Rn_nx pg248 rfl rfl
theorem sJ10_copyOfRangeByte_9 : Rn r 248 9 [l0, l1, l2, some (vI x), l4] [] h Q ↔ Rn r 248 10 [l0, l1, l2, some (vI x), l4] [vI x] h Q := Rn_nx pg248 rfl rfl
theorem sJ10_copyOfRangeByte_10 (hn : ¬ (x0 < 0 ∨ 65536 < x0.toNatClampNeg)) : Rn r 248 10 [l0, l1, l2, l3, l4] [vI x0] h Q ↔ Rn r 248 12 [l0, l1, l2, l3, l4] [vR (some (hN h))] (newC h 44 x0.toNatClampNeg) Q := Rn_nx pg248 rfl (if_neg hn)
theorem sJ10_copyOfRangeByte_12 : Rn r 248 12 [l0, l1, l2, l3, l4] [vR z0] h Q ↔ Rn r 248 14 [l0, l1, l2, l3, some (vR z0)] [] h Q := Rn_nx pg248 rfl rfl
theorem sJ10_copyOfRangeByte_14 : Rn r 248 14 [some (vR z), l1, l2, l3, l4] [] h Q ↔ Rn r 248 15 [some (vR z), l1, l2, l3, l4] [vR z] h Q := Rn_nx pg248 rfl rfl
theorem sJ10_copyOfRangeByte_15 : Rn r 248 15 [l0, some (vI x), l2, l3, l4] [vR z0] h Q ↔ Rn r 248 16 [l0, some (vI x), l2, l3, l4] [vI x, vR z0] h Q := Rn_nx pg248 rfl rfl
theorem sJ10_copyOfRangeByte_16 : Rn r 248 16 [l0, l1, l2, l3, some (vR z)] [vI x0, vR z1] h Q ↔ Rn r 248 18 [l0, l1, l2, l3, some (vR z)] [vR z, vI x0, vR z1] h Q := Rn_nx pg248 rfl rfl
theorem sJ10_copyOfRangeByte_18 : Rn r 248 18 [l0, l1, l2, l3, l4] [vR z0, vI x1, vR z2] h Q ↔ Rn r 248 19 [l0, l1, l2, l3, l4] [vI 0, vR z0, vI x1, vR z2] h Q := Rn_nx pg248 rfl rfl
theorem sJ10_copyOfRangeByte_19 : Rn r 248 19 [some (vR z), l1, l2, l3, l4] [vI x0, vR z1, vI x2, vR z3] h Q ↔ Rn r 248 20 [some (vR z), l1, l2, l3, l4] [vR z, vI x0, vR z1, vI x2, vR z3] h Q := Rn_nx pg248 rfl rfl
theorem sJ10_copyOfRangeByte_20 (hk : 40 ≤ hK h a0) (hk2 : hK h a0 ≤ 49) : Rn r 248 20 [l0, l1, l2, l3, l4] [vR (some a0), vI x1, vR z2, vI x3, vR z4] h Q ↔ Rn r 248 21 [l0, l1, l2, l3, l4] [vI (nI (hL h a0)), vI x1, vR z2, vI x3, vR z4] h Q := Rn_nx pg248 rfl (if_pos ⟨hk, hk2⟩)
theorem sJ10_copyOfRangeByte_21 : Rn r 248 21 [l0, some (vI x), l2, l3, l4] [vI x0, vI x1, vR z2, vI x3, vR z4] h Q ↔ Rn r 248 22 [l0, some (vI x), l2, l3, l4] [vI x, vI x0, vI x1, vR z2, vI x3, vR z4] h Q := Rn_nx pg248 rfl rfl
theorem sJ10_copyOfRangeByte_22 : Rn r 248 22 [l0, l1, l2, l3, l4] [vI x0, vI x1, vI x2, vR z3, vI x4, vR z5] h Q ↔ Rn r 248 23 [l0, l1, l2, l3, l4] [vI (x1 - x0), vI x2, vR z3, vI x4, vR z5] h Q := Rn_nx pg248 rfl rfl
theorem sJ10_copyOfRangeByte_23 : Rn r 248 23 [l0, l1, l2, some (vI x), l4] [vI x0, vI x1, vR z2, vI x3, vR z4] h Q ↔ Rn r 248 24 [l0, l1, l2, some (vI x), l4] [vI x, vI x0, vI x1, vR z2, vI x3, vR z4] h Q := Rn_nx pg248 rfl rfl
theorem sJ10_copyOfRangeByte_24 : Rn r 248 24 [l0, l1, l2, l3, l4] [vI x0, vI x1, vI x2, vR z3, vI x4, vR z5] h Q ↔ Cl r 246 [vI x1, vI x0] h (Kt r 248 27 [l0, l1, l2, l3, l4] [vI x2, vR z3, vI x4, vR z5] Q) := Rn_call pg248 rfl rfl pg246 rfl rfl rfl
theorem sJ10_copyOfRangeByte_27 (h0 : 0 ≤ x0 ∧ 0 ≤ x3 ∧ 0 ≤ x1 ∧ x3.toNatClampNeg + x0.toNatClampNeg ≤ hL h a4 ∧ x1.toNatClampNeg + x0.toNatClampNeg ≤ hL h a2) (hk : (hK h a4 = 44 ∨ hK h a4 = 45) ∧ hK h a2 = 44) : Rn r 248 27 [l0, l1, l2, l3, l4] [vI x0, vI x1, vR (some a2), vI x3, vR (some a4)] h Q ↔ Rn r 248 30 [l0, l1, l2, l3, l4] [] (cpyI h a4 x3.toNatClampNeg a2 x1.toNatClampNeg x0.toNatClampNeg) Q := Rn_nx pg248 rfl ((if_pos ⟨by decide, h0⟩).trans (if_pos hk))
theorem sJ10_copyOfRangeByte_27_r (h0 : 0 ≤ x0 ∧ 0 ≤ x3 ∧ 0 ≤ x1 ∧ x3.toNatClampNeg + x0.toNatClampNeg ≤ hL h a4 ∧ x1.toNatClampNeg + x0.toNatClampNeg ≤ hL h a2) (hk : (hK h a4 = 46 ∨ hK h a4 = 47) ∧ hK h a2 = 46) : Rn r 248 27 [l0, l1, l2, l3, l4] [vI x0, vI x1, vR (some a2), vI x3, vR (some a4)] h Q ↔ Rn r 248 30 [l0, l1, l2, l3, l4] [] (cpyR h a4 x3.toNatClampNeg a2 x1.toNatClampNeg x0.toNatClampNeg) Q := Rn_nx pg248 rfl ((if_pos ⟨by decide, h0⟩).trans ((if_neg (fun q => by rw [hk.2] at q; exact absurd q.2 (by decide))).trans (if_pos hk)))
theorem sJ10_copyOfRangeByte_30 : Rn r 248 30 [l0, l1, l2, l3, some (vR z)] [] h Q ↔ Rn r 248 32 [l0, l1, l2, l3, some (vR z)] [vR z] h Q := Rn_nx pg248 rfl rfl
theorem sJ10_copyOfRangeByte_32 : Rn r 248 32 [l0, l1, l2, l3, l4] [vR z0] h Q ↔ Q (Sum.inl (some (vR z0))) h := Rn_end pg248 rfl rfl
end ST5
