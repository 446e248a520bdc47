/-! STEP LEMMAS, printed by gen_steps.py -/
set_option maxRecDepth 100000
section ST1
variable {r : Nat} {h : am_H} {Q : am_O → am_H → Prop} {x x0 x1 x2 x3 x4 x5 x6 x7 x8 x9 x10 x11 : Int32} {y y0 y1 y2 y3 y4 y5 y6 y7 y8 y9 y10 y11 : Int64} {z z0 z1 z2 z3 z4 z5 z6 z7 z8 z9 z10 z11 : Option Nat} {w0 w1 w2 : UInt32} {a0 a1 a2 a3 a4 a5 a6 a7 a8 a9 a10 a11 : Nat} {l0 l1 l2 l3 l4 l5 l6 l7 l8 l9 l10 l11 l12 l13 l14 l15 l16 l17 l18 l19 : Option am_V}
/-! 25 ThrowRules.steps()I -/
theorem eX0_steps : Cl r 25 [vR z0] h Q ↔ Rn r 25 0 [some (vR z0)] [] h Q := Cl_in pg25 rfl
theorem sX0_steps_0 : Rn r 25 0 [some (vR z)] [] h Q ↔ Rn r 25 1 [some (vR z)] [vR z] h Q := Rn_nx pg25 rfl rfl
theorem sX0_steps_1 (hk : hK h a0 = 1) : Rn r 25 1 [l0] [vR (some a0)] h Q ↔ Rn r 25 4 [l0] [vR (hR h a0 4)] h Q := Rn_nx pg25 rfl (if_pos ⟨(hk ▸ Nat.le_refl _), (hk ▸ Nat.le_refl _)⟩)
theorem sX0_steps_4 (hk : hK h a0 = 14) : Rn r 25 4 [l0] [vR (some a0)] h Q ↔ Rn r 25 7 [l0] [vI (hI h a0 4)] h Q := Rn_nx pg25 rfl (if_pos ⟨(hk ▸ Nat.le_refl _), (hk ▸ Nat.le_refl _)⟩)
theorem sX0_steps_7 : Rn r 25 7 [l0] [vI x0] h Q ↔ Q (Sum.inl (some (vI x0))) h := Rn_end pg25 rfl rfl
/-! 26 ThrowRulesModel.steps()I -/
theorem eX6_steps : Cl r 26 [vR z0] h Q ↔ Rn r 26 0 [some (vR z0)] [] h Q := Cl_in pg26 rfl
theorem sX6_steps_0 : Rn r 26 0 [some (vR z)] [] h Q ↔ Rn r 26 1 [some (vR z)] [vR z] h Q := Rn_nx pg26 rfl rfl
theorem sX6_steps_1 (hk : hK h a0 = 15) : Rn r 26 1 [l0] [vR (some a0)] h Q ↔ Rn r 26 4 [l0] [vI (hI h a0 65)] h Q := Rn_nx pg26 rfl (if_pos ⟨(hk ▸ Nat.le_refl _), (hk ▸ Nat.le_refl _)⟩)
theorem sX6_steps_4 : Rn r 26 4 [l0] [vI x0] h Q ↔ Q (Sum.inl (some (vI x0))) h := Rn_end pg26 rfl rfl
/-! 27 ThrowRules$Reader.<init>()V -/
theorem eX1_init : Cl r 27 [vR z0] h Q ↔ Rn r 27 0 [some (vR z0)] [] h Q := Cl_in pg27 rfl
theorem sX1_init_0 : Rn r 27 0 [some (vR z)] [] h Q ↔ Rn r 27 1 [some (vR z)] [vR z] h Q := Rn_nx pg27 rfl rfl
theorem sX1_init_1 : Rn r 27 1 [l0] [vR (some a0)] h Q ↔ Rn r 27 4 [l0] [] h Q := Rn_nx pg27 rfl rfl
theorem sX1_init_4 : Rn r 27 4 [some (vR z)] [] h Q ↔ Rn r 27 5 [some (vR z)] [vR z] h Q := Rn_nx pg27 rfl rfl
theorem sX1_init_5 : Rn r 27 5 [l0] [vR z0] h Q ↔ Rn r 27 8 [l0] [vR (some (hN h)), vR z0] (newC h 3 7) Q := Rn_nx pg27 rfl rfl
theorem sX1_init_8 : Rn r 27 8 [l0] [vR z0, vR z1] h Q ↔ Rn r 27 9 [l0] [vR z0, vR z0, vR z1] h Q := Rn_nx pg27 rfl rfl
theorem sX1_init_9 (hk : 0 < hK h a0) (hk2 : hK h a0 < 40) : Rn r 27 9 [l0] [vR (some a0), vR z1, vR z2] h Q ↔ Cl r 75 [vR (some a0)] h (Kt r 27 12 [l0] [vR z1, vR z2] Q) := Rn_call pg27 rfl (if_pos ⟨hk, hk2⟩) pg75 rfl rfl rfl
theorem sX1_init_12 (hk : hK h a1 = 2) : Rn r 27 12 [l0] [vR z0, vR (some a1)] h Q ↔ Rn r 27 15 [l0] [] (putR h a1 0 z0) Q := Rn_nx pg27 rfl ((if_pos ⟨(hk ▸ Nat.le_refl _), (hk ▸ Nat.le_refl _)⟩).trans rfl)
theorem sX1_init_15 : Rn r 27 15 [some (vR z)] [] h Q ↔ Rn r 27 16 [some (vR z)] [vR z] h Q := Rn_nx pg27 rfl rfl
theorem sX1_init_16 : Rn r 27 16 [l0] [vR z0] h Q ↔ Rn r 27 19 [l0] [vR (some (hN h)), vR z0] (newC h 4 3) Q := Rn_nx pg27 rfl rfl
theorem sX1_init_19 : Rn r 27 19 [l0] [vR z0, vR z1] h Q ↔ Rn r 27 20 [l0] [vR z0, vR z0, vR z1] h Q := Rn_nx pg27 rfl rfl
theorem sX1_init_20 (hk : 0 < hK h a0) (hk2 : hK h a0 < 40) : Rn r 27 20 [l0] [vR (some a0), vR z1, vR z2] h Q ↔ Cl r 76 [vR (some a0)] h (Kt r 27 23 [l0] [vR z1, vR z2] Q) := Rn_call pg27 rfl (if_pos ⟨hk, hk2⟩) pg76 rfl rfl rfl
theorem sX1_init_23 (hk : hK h a1 = 2) : Rn r 27 23 [l0] [vR z0, vR (some a1)] h Q ↔ Rn r 27 26 [l0] [] (putR h a1 10 z0) Q := Rn_nx pg27 rfl ((if_pos ⟨(hk ▸ Nat.le_refl _), (hk ▸ Nat.le_refl _)⟩).trans rfl)
theorem sX1_init_26 : Rn r 27 26 [some (vR z)] [] h Q ↔ Rn r 27 27 [some (vR z)] [vR z] h Q := Rn_nx pg27 rfl rfl
theorem sX1_init_27 : Rn r 27 27 [l0] [vR z0] h Q ↔ Rn r 27 30 [l0] [vR (some (hN h)), vR z0] (newC h 4 3) Q := Rn_nx pg27 rfl rfl
theorem sX1_init_30 : Rn r 27 30 [l0] [vR z0, vR z1] h Q ↔ Rn r 27 31 [l0] [vR z0, vR z0, vR z1] h Q := Rn_nx pg27 rfl rfl
theorem sX1_init_31 (hk : 0 < hK h a0) (hk2 : hK h a0 < 40) : Rn r 27 31 [l0] [vR (some a0), vR z1, vR z2] h Q ↔ Cl r 76 [vR (some a0)] h (Kt r 27 34 [l0] [vR z1, vR z2] Q) := Rn_call pg27 rfl (if_pos ⟨hk, hk2⟩) pg76 rfl rfl rfl
theorem sX1_init_34 (hk : hK h a1 = 2) : Rn r 27 34 [l0] [vR z0, vR (some a1)] h Q ↔ Rn r 27 37 [l0] [] (putR h a1 11 z0) Q := Rn_nx pg27 rfl ((if_pos ⟨(hk ▸ Nat.le_refl _), (hk ▸ Nat.le_refl _)⟩).trans rfl)
theorem sX1_init_37 : Rn r 27 37 [some (vR z)] [] h Q ↔ Rn r 27 38 [some (vR z)] [vR z] h Q := Rn_nx pg27 rfl rfl
theorem sX1_init_38 : Rn r 27 38 [l0] [vR z0] h Q ↔ Rn r 27 41 [l0] [vR (some (hN h)), vR z0] (newC h 4 3) Q := Rn_nx pg27 rfl rfl
theorem sX1_init_41 : Rn r 27 41 [l0] [vR z0, vR z1] h Q ↔ Rn r 27 42 [l0] [vR z0, vR z0, vR z1] h Q := Rn_nx pg27 rfl rfl
theorem sX1_init_42 (hk : 0 < hK h a0) (hk2 : hK h a0 < 40) : Rn r 27 42 [l0] [vR (some a0), vR z1, vR z2] h Q ↔ Cl r 76 [vR (some a0)] h (Kt r 27 45 [l0] [vR z1, vR z2] Q) := Rn_call pg27 rfl (if_pos ⟨hk, hk2⟩) pg76 rfl rfl rfl
theorem sX1_init_45 (hk : hK h a1 = 2) : Rn r 27 45 [l0] [vR z0, vR (some a1)] h Q ↔ Rn r 27 48 [l0] [] (putR h a1 12 z0) Q := Rn_nx pg27 rfl ((if_pos ⟨(hk ▸ Nat.le_refl _), (hk ▸ Nat.le_refl _)⟩).trans rfl)
theorem sX1_init_48 : Rn r 27 48 [some (vR z)] [] h Q ↔ Rn r 27 49 [some (vR z)] [vR z] h Q := Rn_nx pg27 rfl rfl
theorem sX1_init_49 : Rn r 27 49 [l0] [vR z0] h Q ↔ Rn r 27 52 [l0] [vR (some (hN h)), vR z0] (newC h 4 3) Q := Rn_nx pg27 rfl rfl
theorem sX1_init_52 : Rn r 27 52 [l0] [vR z0, vR z1] h Q ↔ Rn r 27 53 [l0] [vR z0, vR z0, vR z1] h Q := Rn_nx pg27 rfl rfl
theorem sX1_init_53 (hk : 0 < hK h a0) (hk2 : hK h a0 < 40) : Rn r 27 53 [l0] [vR (some a0), vR z1, vR z2] h Q ↔ Cl r 76 [vR (some a0)] h (Kt r 27 56 [l0] [vR z1, vR z2] Q) := Rn_call pg27 rfl (if_pos ⟨hk, hk2⟩) pg76 rfl rfl rfl
theorem sX1_init_56 (hk : hK h a1 = 2) : Rn r 27 56 [l0] [vR z0, vR (some a1)] h Q ↔ Rn r 27 59 [l0] [] (putR h a1 13 z0) Q := Rn_nx pg27 rfl ((if_pos ⟨(hk ▸ Nat.le_refl _), (hk ▸ Nat.le_refl _)⟩).trans rfl)
theorem sX1_init_59 : Rn r 27 59 [some (vR z)] [] h Q ↔ Rn r 27 60 [some (vR z)] [vR z] h Q := Rn_nx pg27 rfl rfl
theorem sX1_init_60 : Rn r 27 60 [l0] [vR z0] h Q ↔ Rn r 27 63 [l0] [vR (some (hN h)), vR z0] (newC h 4 3) Q := Rn_nx pg27 rfl rfl
theorem sX1_init_63 : Rn r 27 63 [l0] [vR z0, vR z1] h Q ↔ Rn r 27 64 [l0] [vR z0, vR z0, vR z1] h Q := Rn_nx pg27 rfl rfl
theorem sX1_init_64 (hk : 0 < hK h a0) (hk2 : hK h a0 < 40) : Rn r 27 64 [l0] [vR (some a0), vR z1, vR z2] h Q ↔ Cl r 76 [vR (some a0)] h (Kt r 27 67 [l0] [vR z1, vR z2] Q) := Rn_call pg27 rfl (if_pos ⟨hk, hk2⟩) pg76 rfl rfl rfl
theorem sX1_init_67 (hk : hK h a1 = 2) : Rn r 27 67 [l0] [vR z0, vR (some a1)] h Q ↔ Rn r 27 70 [l0] [] (putR h a1 17 z0) Q := Rn_nx pg27 rfl ((if_pos ⟨(hk ▸ Nat.le_refl _), (hk ▸ Nat.le_refl _)⟩).trans rfl)
theorem sX1_init_70 : Rn r 27 70 [l0] [] h Q ↔ Q (Sum.inl none) h := Rn_end pg27 rfl rfl
/-! 28 ThrowRules$Unit.<init>()V -/
theorem eX3_init : Cl r 28 [vR z0] h Q ↔ Rn r 28 0 [some (vR z0), none, none] [] h Q := Cl_in pg28 rfl
theorem sX3_init_0 : Rn r 28 0 [some (vR z), l1, l2] [] h Q ↔ Rn r 28 1 [some (vR z), l1, l2] [vR z] h Q := Rn_nx pg28 rfl rfl
theorem sX3_init_1 : Rn r 28 1 [l0, l1, l2] [vR (some a0)] h Q ↔ Rn r 28 4 [l0, l1, l2] [] h Q := Rn_nx pg28 rfl rfl
theorem sX3_init_4 : Rn r 28 4 [some (vR z), l1, l2] [] h Q ↔ Rn r 28 5 [some (vR z), l1, l2] [vR z] h Q := Rn_nx pg28 rfl rfl
theorem sX3_init_5 : Rn r 28 5 [l0, l1, l2] [vR z0] h Q ↔ Rn r 28 8 [l0, l1, l2] [vR (some (hN h)), vR z0] (newC h 4 3) Q := Rn_nx pg28 rfl rfl
theorem sX3_init_8 : Rn r 28 8 [l0, l1, l2] [vR z0, vR z1] h Q ↔ Rn r 28 9 [l0, l1, l2] [vR z0, vR z0, vR z1] h Q := Rn_nx pg28 rfl rfl
theorem sX3_init_9 (hk : 0 < hK h a0) (hk2 : hK h a0 < 40) : Rn r 28 9 [l0, l1, l2] [vR (some a0), vR z1, vR z2] h Q ↔ Cl r 76 [vR (some a0)] h (Kt r 28 12 [l0, l1, l2] [vR z1, vR z2] Q) := Rn_call pg28 rfl (if_pos ⟨hk, hk2⟩) pg76 rfl rfl rfl
theorem sX3_init_12 (hk : hK h a1 = 5) : Rn r 28 12 [l0, l1, l2] [vR z0, vR (some a1)] h Q ↔ Rn r 28 15 [l0, l1, l2] [] (putR h a1 0 z0) Q := Rn_nx pg28 rfl ((if_pos ⟨(hk ▸ Nat.le_refl _), (hk ▸ Nat.le_refl _)⟩).trans rfl)
theorem sX3_init_15 : Rn r 28 15 [some (vR z), l1, l2] [] h Q ↔ Rn r 28 16 [some (vR z), l1, l2] [vR z] h Q := Rn_nx pg28 rfl rfl
theorem sX3_init_16 : Rn r 28 16 [l0, l1, l2] [vR z0] h Q ↔ Rn r 28 19 [l0, l1, l2] [vR (some (hN h)), vR z0] (newC h 6 8) Q := Rn_nx pg28 rfl rfl
theorem sX3_init_19 : Rn r 28 19 [l0, l1, l2] [vR z0, vR z1] h Q ↔ Rn r 28 20 [l0, l1, l2] [vR z0, vR z0, vR z1] h Q := Rn_nx pg28 rfl rfl
theorem sX3_init_20 (hk : 0 < hK h a0) (hk2 : hK h a0 < 40) : Rn r 28 20 [l0, l1, l2] [vR (some a0), vR z1, vR z2] h Q ↔ Cl r 77 [vR (some a0)] h (Kt r 28 23 [l0, l1, l2] [vR z1, vR z2] Q) := Rn_call pg28 rfl (if_pos ⟨hk, hk2⟩) pg77 rfl rfl rfl
theorem sX3_init_23 (hk : hK h a1 = 5) : Rn r 28 23 [l0, l1, l2] [vR z0, vR (some a1)] h Q ↔ Rn r 28 26 [l0, l1, l2] [] (putR h a1 1 z0) Q := Rn_nx pg28 rfl ((if_pos ⟨(hk ▸ Nat.le_refl _), (hk ▸ Nat.le_refl _)⟩).trans rfl)
theorem sX3_init_26 : Rn r 28 26 [some (vR z), l1, l2] [] h Q ↔ Rn r 28 27 [some (vR z), l1, l2] [vR z] h Q := Rn_nx pg28 rfl rfl
theorem sX3_init_27 : Rn r 28 27 [l0, l1, l2] [vR z0] h Q ↔ Rn r 28 30 [l0, l1, l2] [vR (some (hN h)), vR z0] (newC h 4 3) Q := Rn_nx pg28 rfl rfl
theorem sX3_init_30 : Rn r 28 30 [l0, l1, l2] [vR z0, vR z1] h Q ↔ Rn r 28 31 [l0, l1, l2] [vR z0, vR z0, vR z1] h Q := Rn_nx pg28 rfl rfl
theorem sX3_init_31 (hk : 0 < hK h a0) (hk2 : hK h a0 < 40) : Rn r 28 31 [l0, l1, l2] [vR (some a0), vR z1, vR z2] h Q ↔ Cl r 76 [vR (some a0)] h (Kt r 28 34 [l0, l1, l2] [vR z1, vR z2] Q) := Rn_call pg28 rfl (if_pos ⟨hk, hk2⟩) pg76 rfl rfl rfl
theorem sX3_init_34 (hk : hK h a1 = 5) : Rn r 28 34 [l0, l1, l2] [vR z0, vR (some a1)] h Q ↔ Rn r 28 37 [l0, l1, l2] [] (putR h a1 2 z0) Q := Rn_nx pg28 rfl ((if_pos ⟨(hk ▸ Nat.le_refl _), (hk ▸ Nat.le_refl _)⟩).trans rfl)
theorem sX3_init_37 : Rn r 28 37 [some (vR z), l1, l2] [] h Q ↔ Rn r 28 38 [some (vR z), l1, l2] [vR z] h Q := Rn_nx pg28 rfl rfl
theorem sX3_init_38 : Rn r 28 38 [l0, l1, l2] [vR z0] h Q ↔ Rn r 28 41 [l0, l1, l2] [vR (some (hN h)), vR z0] (newC h 6 8) Q := Rn_nx pg28 rfl rfl
theorem sX3_init_41 : Rn r 28 41 [l0, l1, l2] [vR z0, vR z1] h Q ↔ Rn r 28 42 [l0, l1, l2] [vR z0, vR z0, vR z1] h Q := Rn_nx pg28 rfl rfl
theorem sX3_init_42 (hk : 0 < hK h a0) (hk2 : hK h a0 < 40) : Rn r 28 42 [l0, l1, l2] [vR (some a0), vR z1, vR z2] h Q ↔ Cl r 77 [vR (some a0)] h (Kt r 28 45 [l0, l1, l2] [vR z1, vR z2] Q) := Rn_call pg28 rfl (if_pos ⟨hk, hk2⟩) pg77 rfl rfl rfl
theorem sX3_init_45 (hk : hK h a1 = 5) : Rn r 28 45 [l0, l1, l2] [vR z0, vR (some a1)] h Q ↔ Rn r 28 48 [l0, l1, l2] [] (putR h a1 3 z0) Q := Rn_nx pg28 rfl ((if_pos ⟨(hk ▸ Nat.le_refl _), (hk ▸ Nat.le_refl _)⟩).trans rfl)
theorem sX3_init_48 : Rn r 28 48 [some (vR z), l1, l2] [] h Q ↔ Rn r 28 49 [some (vR z), l1, l2] [vR z] h Q := Rn_nx pg28 rfl rfl
theorem sX3_init_49 : Rn r 28 49 [l0, l1, l2] [vR z0] h Q ↔ Rn r 28 52 [l0, l1, l2] [vR (some (hN h)), vR z0] (newC h 4 3) Q := Rn_nx pg28 rfl rfl
theorem sX3_init_52 : Rn r 28 52 [l0, l1, l2] [vR z0, vR z1] h Q ↔ Rn r 28 53 [l0, l1, l2] [vR z0, vR z0, vR z1] h Q := Rn_nx pg28 rfl rfl
theorem sX3_init_53 (hk : 0 < hK h a0) (hk2 : hK h a0 < 40) : Rn r 28 53 [l0, l1, l2] [vR (some a0), vR z1, vR z2] h Q ↔ Cl r 76 [vR (some a0)] h (Kt r 28 56 [l0, l1, l2] [vR z1, vR z2] Q) := Rn_call pg28 rfl (if_pos ⟨hk, hk2⟩) pg76 rfl rfl rfl
theorem sX3_init_56 (hk : hK h a1 = 5) : Rn r 28 56 [l0, l1, l2] [vR z0, vR (some a1)] h Q ↔ Rn r 28 59 [l0, l1, l2] [] (putR h a1 4 z0) Q := Rn_nx pg28 rfl ((if_pos ⟨(hk ▸ Nat.le_refl _), (hk ▸ Nat.le_refl _)⟩).trans rfl)
theorem sX3_init_59 : Rn r 28 59 [some (vR z), l1, l2] [] h Q ↔ Rn r 28 60 [some (vR z), l1, l2] [vR z] h Q := Rn_nx pg28 rfl rfl
theorem sX3_init_60 : Rn r 28 60 [l0, l1, l2] [vR z0] h Q ↔ Rn r 28 63 [l0, l1, l2] [vR (some (hN h)), vR z0] (newC h 4 3) Q := Rn_nx pg28 rfl rfl
theorem sX3_init_63 : Rn r 28 63 [l0, l1, l2] [vR z0, vR z1] h Q ↔ Rn r 28 64 [l0, l1, l2] [vR z0, vR z0, vR z1] h Q := Rn_nx pg28 rfl rfl
theorem sX3_init_64 (hk : 0 < hK h a0) (hk2 : hK h a0 < 40) : Rn r 28 64 [l0, l1, l2] [vR (some a0), vR z1, vR z2] h Q ↔ Cl r 76 [vR (some a0)] h (Kt r 28 67 [l0, l1, l2] [vR z1, vR z2] Q) := Rn_call pg28 rfl (if_pos ⟨hk, hk2⟩) pg76 rfl rfl rfl
theorem sX3_init_67 (hk : hK h a1 = 5) : Rn r 28 67 [l0, l1, l2] [vR z0, vR (some a1)] h Q ↔ Rn r 28 70 [l0, l1, l2] [] (putR h a1 5 z0) Q := Rn_nx pg28 rfl ((if_pos ⟨(hk ▸ Nat.le_refl _), (hk ▸ Nat.le_refl _)⟩).trans rfl)
theorem sX3_init_70 : Rn r 28 70 [some (vR z), l1, l2] [] h Q ↔ Rn r 28 71 [some (vR z), l1, l2] [vR z] h Q := Rn_nx pg28 rfl rfl
theorem sX3_init_71 : Rn r 28 71 [l0, l1, l2] [vR z0] h Q ↔ Rn r 28 73 [l0, l1, l2] [vR (some (hE h 0)), vR z0] h Q := Rn_nx pg28 rfl rfl
theorem sX3_init_73 : Rn r 28 73 [l0, l1, l2] [vR z0, vR z1] h Q ↔ Rn r 28 74 [l0, l1, l2] [vR none, vR z0, vR z1] h Q := Rn_nx pg28 rfl rfl
theorem sX3_init_74 : Rn r 28 74 [l0, l1, l2] [vR z0, vR z1, vR z2] h Q ↔ Rn r 28 75 [l0, l1, l2] [vI (-1), vR z0, vR z1, vR z2] h Q := Rn_nx pg28 rfl rfl
theorem sX3_init_75 (hk : hK h a3 = 5) : Rn r 28 75 [l0, l1, l2] [vI x0, vR z1, vR z2, vR (some a3)] h Q ↔ Cl r 78 [vR (some a3), vR z2, vR z1, vI x0] h (Kt r 28 78 [l0, l1, l2] [] Q) := Rn_call pg28 rfl (by simp only [am_exec, am_inv, am_pop, am_lk, hk]; rfl) pg78 rfl rfl rfl
theorem sX3_init_78 : Rn r 28 78 [l0, l1, l2] [vR z0] h Q ↔ Rn r 28 79 [l0, some (vR z0), l2] [] h Q := Rn_nx pg28 rfl rfl
theorem sX3_init_79 : Rn r 28 79 [some (vR z), l1, l2] [] h Q ↔ Rn r 28 80 [some (vR z), l1, l2] [vR z] h Q := Rn_nx pg28 rfl rfl
theorem sX3_init_80 : Rn r 28 80 [l0, l1, l2] [vR z0] h Q ↔ Rn r 28 82 [l0, l1, l2] [vR (some (hE h 1)), vR z0] h Q := Rn_nx pg28 rfl rfl
theorem sX3_init_82 : Rn r 28 82 [l0, some (vR z), l2] [vR z0, vR z1] h Q ↔ Rn r 28 83 [l0, some (vR z), l2] [vR z, vR z0, vR z1] h Q := Rn_nx pg28 rfl rfl
theorem sX3_init_83 : Rn r 28 83 [l0, l1, l2] [vR z0, vR z1, vR z2] h Q ↔ Rn r 28 84 [l0, l1, l2] [vI (-1), vR z0, vR z1, vR z2] h Q := Rn_nx pg28 rfl rfl
theorem sX3_init_84 (hk : hK h a3 = 5) : Rn r 28 84 [l0, l1, l2] [vI x0, vR z1, vR z2, vR (some a3)] h Q ↔ Cl r 78 [vR (some a3), vR z2, vR z1, vI x0] h (Kt r 28 87 [l0, l1, l2] [] Q) := Rn_call pg28 rfl (by simp only [am_exec, am_inv, am_pop, am_lk, hk]; rfl) pg78 rfl rfl rfl
theorem sX3_init_87 : Rn r 28 87 [l0, l1, l2] [vR z0] h Q ↔ Rn r 28 88 [l0, l1, some (vR z0)] [] h Q := Rn_nx pg28 rfl rfl
theorem sX3_init_88 : Rn r 28 88 [some (vR z), l1, l2] [] h Q ↔ Rn r 28 89 [some (vR z), l1, l2] [vR z] h Q := Rn_nx pg28 rfl rfl
theorem sX3_init_89 : Rn r 28 89 [l0, l1, l2] [vR z0] h Q ↔ Rn r 28 91 [l0, l1, l2] [vR (some (hE h 2)), vR z0] h Q := Rn_nx pg28 rfl rfl
theorem sX3_init_91 : Rn r 28 91 [l0, l1, some (vR z)] [vR z0, vR z1] h Q ↔ Rn r 28 92 [l0, l1, some (vR z)] [vR z, vR z0, vR z1] h Q := Rn_nx pg28 rfl rfl
theorem sX3_init_92 : Rn r 28 92 [l0, l1, l2] [vR z0, vR z1, vR z2] h Q ↔ Rn r 28 93 [l0, l1, l2] [vI (-1), vR z0, vR z1, vR z2] h Q := Rn_nx pg28 rfl rfl
theorem sX3_init_93 (hk : hK h a3 = 5) : Rn r 28 93 [l0, l1, l2] [vI x0, vR z1, vR z2, vR (some a3)] h Q ↔ Cl r 78 [vR (some a3), vR z2, vR z1, vI x0] h (Kt r 28 96 [l0, l1, l2] [] Q) := Rn_call pg28 rfl (by simp only [am_exec, am_inv, am_pop, am_lk, hk]; rfl) pg78 rfl rfl rfl
theorem sX3_init_96 : Rn r 28 96 [l0, l1, l2] [vR z0] h Q ↔ Rn r 28 97 [l0, l1, l2] [] h Q := Rn_nx pg28 rfl rfl
theorem sX3_init_97 : Rn r 28 97 [some (vR z), l1, l2] [] h Q ↔ Rn r 28 98 [some (vR z), l1, l2] [vR z] h Q := Rn_nx pg28 rfl rfl
theorem sX3_init_98 : Rn r 28 98 [l0, l1, l2] [vR z0] h Q ↔ Rn r 28 100 [l0, l1, l2] [vR (some (hE h 3)), vR z0] h Q := Rn_nx pg28 rfl rfl
theorem sX3_init_100 : Rn r 28 100 [l0, some (vR z), l2] [vR z0, vR z1] h Q ↔ Rn r 28 101 [l0, some (vR z), l2] [vR z, vR z0, vR z1] h Q := Rn_nx pg28 rfl rfl
theorem sX3_init_101 : Rn r 28 101 [l0, l1, l2] [vR z0, vR z1, vR z2] h Q ↔ Rn r 28 102 [l0, l1, l2] [vI (-1), vR z0, vR z1, vR z2] h Q := Rn_nx pg28 rfl rfl
theorem sX3_init_102 (hk : hK h a3 = 5) : Rn r 28 102 [l0, l1, l2] [vI x0, vR z1, vR z2, vR (some a3)] h Q ↔ Cl r 78 [vR (some a3), vR z2, vR z1, vI x0] h (Kt r 28 105 [l0, l1, l2] [] Q) := Rn_call pg28 rfl (by simp only [am_exec, am_inv, am_pop, am_lk, hk]; rfl) pg78 rfl rfl rfl
theorem sX3_init_105 : Rn r 28 105 [l0, l1, l2] [vR z0] h Q ↔ Rn r 28 106 [l0, l1, l2] [] h Q := Rn_nx pg28 rfl rfl
theorem sX3_init_106 : Rn r 28 106 [l0, l1, l2] [] h Q ↔ Q (Sum.inl none) h := Rn_end pg28 rfl rfl
/-! 29 ThrowRules$Walk.<init>()V -/
theorem eX5_init : Cl r 29 [vR z0] h Q ↔ Rn r 29 0 [some (vR z0)] [] h Q := Cl_in pg29 rfl
theorem sX5_init_0 : Rn r 29 0 [some (vR z)] [] h Q ↔ Rn r 29 1 [some (vR z)] [vR z] h Q := Rn_nx pg29 rfl rfl
theorem sX5_init_1 : Rn r 29 1 [l0] [vR (some a0)] h Q ↔ Rn r 29 4 [l0] [] h Q := Rn_nx pg29 rfl rfl
theorem sX5_init_4 : Rn r 29 4 [l0] [] h Q ↔ Q (Sum.inl none) h := Rn_end pg29 rfl rfl
/-! 30 ThrowRulesModel.clear(Z)V -/
theorem eX6_clear : Cl r 30 [vR z0, vI x1] h Q ↔ Rn r 30 0 [some (vR z0), some (vI x1), none] [] h Q := Cl_in pg30 rfl
theorem sX6_clear_0 : Rn r 30 0 [some (vR z), l1, l2] [] h Q ↔ Rn r 30 1 [some (vR z), l1, l2] [vR z] h Q := Rn_nx pg30 rfl rfl
theorem sX6_clear_1 : Rn r 30 1 [l0, some (vI x), l2] [vR z0] h Q ↔ Rn r 30 2 [l0, some (vI x), l2] [vI x, vR z0] h Q := Rn_nx pg30 rfl rfl
theorem sX6_clear_2 : Rn r 30 2 [l0, l1, l2] [vI x0, vR z1] h Q ↔ if x0 = 0 then Rn r 30 14 [l0, l1, l2] [vR z1] h Q else Rn r 30 5 [l0, l1, l2] [vR z1] h Q := Rn_if pg30 rfl rfl rfl
theorem sX6_clear_5 : Rn r 30 5 [l0, l1, l2] [vR z0] h Q ↔ Rn r 30 6 [l0, l1, l2] [vI 1, vR z0] h Q := Rn_nx pg30 rfl rfl
theorem sX6_clear_6 : Rn r 30 6 [some (vR z), l1, l2] [vI x0, vR z1] h Q ↔ Rn r 30 7 [some (vR z), l1, l2] [vR z, vI x0, vR z1] h Q := Rn_nx pg30 rfl rfl
theorem sX6_clear_7 (hk : hK h a0 = 15) : Rn r 30 7 [l0, l1, l2] [vR (some a0), vI x1, vR z2] h Q ↔ Rn r 30 10 [l0, l1, l2] [vI (hI h a0 2), vI x1, vR z2] h Q := Rn_nx pg30 rfl (if_pos ⟨(hk ▸ Nat.le_refl _), (hk ▸ Nat.le_refl _)⟩)
theorem sX6_clear_10 : Rn r 30 10 [l0, l1, l2] [vI x0, vI x1, vR z2] h Q ↔ Rn r 30 11 [l0, l1, l2] [vI (x1 - x0), vR z2] h Q := Rn_nx pg30 rfl rfl
theorem sX6_clear_11 : Rn r 30 11 [l0, l1, l2] [vI x0, vR z1] h Q ↔ Rn r 30 18 [l0, l1, l2] [vI x0, vR z1] h Q := Rn_nx pg30 rfl rfl
theorem sX6_clear_14 : Rn r 30 14 [some (vR z), l1, l2] [vR z0] h Q ↔ Rn r 30 15 [some (vR z), l1, l2] [vR z, vR z0] h Q := Rn_nx pg30 rfl rfl
theorem sX6_clear_15 (hk : hK h a0 = 15) : Rn r 30 15 [l0, l1, l2] [vR (some a0), vR z1] h Q ↔ Rn r 30 18 [l0, l1, l2] [vI (hI h a0 2), vR z1] h Q := Rn_nx pg30 rfl (if_pos ⟨(hk ▸ Nat.le_refl _), (hk ▸ Nat.le_refl _)⟩)
theorem sX6_clear_18 (hk : hK h a1 = 15) : Rn r 30 18 [l0, l1, l2] [vI x0, vR (some a1)] h Q ↔ Rn r 30 21 [l0, l1, l2] [] (putI h a1 2 x0) Q := Rn_nx pg30 rfl ((if_pos ⟨(hk ▸ Nat.le_refl _), (hk ▸ Nat.le_refl _)⟩).trans rfl)
theorem sX6_clear_21 : Rn r 30 21 [some (vR z), l1, l2] [] h Q ↔ Rn r 30 22 [some (vR z), l1, l2] [vR z] h Q := Rn_nx pg30 rfl rfl
theorem sX6_clear_22 (hk : hK h a0 = 15) : Rn r 30 22 [l0, l1, l2] [vR (some a0)] h Q ↔ Rn r 30 25 [l0, l1, l2] [vR (hR h a0 3)] h Q := Rn_nx pg30 rfl (if_pos ⟨(hk ▸ Nat.le_refl _), (hk ▸ Nat.le_refl _)⟩)
theorem sX6_clear_25 : Rn r 30 25 [some (vR z), l1, l2] [vR z0] h Q ↔ Rn r 30 26 [some (vR z), l1, l2] [vR z, vR z0] h Q := Rn_nx pg30 rfl rfl
theorem sX6_clear_26 (hk : hK h a0 = 15) : Rn r 30 26 [l0, l1, l2] [vR (some a0), vR z1] h Q ↔ Rn r 30 29 [l0, l1, l2] [vI (hI h a0 2), vR z1] h Q := Rn_nx pg30 rfl (if_pos ⟨(hk ▸ Nat.le_refl _), (hk ▸ Nat.le_refl _)⟩)
theorem sX6_clear_29 : Rn r 30 29 [l0, l1, l2] [vI x0, vR z1] h Q ↔ Rn r 30 30 [l0, l1, l2] [vI 4, vI x0, vR z1] h Q := Rn_nx pg30 rfl rfl
theorem sX6_clear_30 (hk : hK h a2 = 40) (hx : ¬ (x1 < 0 ∨ hL h a2 ≤ x1.toNatClampNeg)) : Rn r 30 30 [l0, l1, l2] [vI x0, vI x1, vR (some a2)] h Q ↔ Rn r 30 31 [l0, l1, l2] [] (putI h a2 x1.toNatClampNeg x0) Q := Rn_nx pg30 rfl ((if_pos hk).trans (if_neg hx))
theorem sX6_clear_31 : Rn r 30 31 [some (vR z), l1, l2] [] h Q ↔ Rn r 30 32 [some (vR z), l1, l2] [vR z] h Q := Rn_nx pg30 rfl rfl
theorem sX6_clear_32 (hk : hK h a0 = 15) : Rn r 30 32 [l0, l1, l2] [vR (some a0)] h Q ↔ Rn r 30 35 [l0, l1, l2] [vR (hR h a0 9)] h Q := Rn_nx pg30 rfl (if_pos ⟨(hk ▸ Nat.le_refl _), (hk ▸ Nat.le_refl _)⟩)
theorem sX6_clear_35 : Rn r 30 35 [some (vR z), l1, l2] [vR z0] h Q ↔ Rn r 30 36 [some (vR z), l1, l2] [vR z, vR z0] h Q := Rn_nx pg30 rfl rfl
theorem sX6_clear_36 (hk : hK h a0 = 15) : Rn r 30 36 [l0, l1, l2] [vR (some a0), vR z1] h Q ↔ Rn r 30 39 [l0, l1, l2] [vI (hI h a0 2), vR z1] h Q := Rn_nx pg30 rfl (if_pos ⟨(hk ▸ Nat.le_refl _), (hk ▸ Nat.le_refl _)⟩)
theorem sX6_clear_39 : Rn r 30 39 [l0, l1, l2] [vI x0, vR z1] h Q ↔ Rn r 30 40 [l0, l1, l2] [vI 0, vI x0, vR z1] h Q := Rn_nx pg30 rfl rfl
theorem sX6_clear_40 (hk : hK h a2 = 40) (hx : ¬ (x1 < 0 ∨ hL h a2 ≤ x1.toNatClampNeg)) : Rn r 30 40 [l0, l1, l2] [vI x0, vI x1, vR (some a2)] h Q ↔ Rn r 30 41 [l0, l1, l2] [] (putI h a2 x1.toNatClampNeg x0) Q := Rn_nx pg30 rfl ((if_pos hk).trans (if_neg hx))
theorem sX6_clear_41 : Rn r 30 41 [some (vR z), l1, l2] [] h Q ↔ Rn r 30 42 [some (vR z), l1, l2] [vR z] h Q := Rn_nx pg30 rfl rfl
theorem sX6_clear_42 (hk : hK h a0 = 15) : Rn r 30 42 [l0, l1, l2] [vR (some a0)] h Q ↔ Rn r 30 45 [l0, l1, l2] [vR (hR h a0 19)] h Q := Rn_nx pg30 rfl (if_pos ⟨(hk ▸ Nat.le_refl _), (hk ▸ Nat.le_refl _)⟩)
theorem sX6_clear_45 : Rn r 30 45 [some (vR z), l1, l2] [vR z0] h Q ↔ Rn r 30 46 [some (vR z), l1, l2] [vR z, vR z0] h Q := Rn_nx pg30 rfl rfl
theorem sX6_clear_46 (hk : hK h a0 = 15) : Rn r 30 46 [l0, l1, l2] [vR (some a0), vR z1] h Q ↔ Rn r 30 49 [l0, l1, l2] [vI (hI h a0 2), vR z1] h Q := Rn_nx pg30 rfl (if_pos ⟨(hk ▸ Nat.le_refl _), (hk ▸ Nat.le_refl _)⟩)
theorem sX6_clear_49 : Rn r 30 49 [l0, l1, l2] [vI x0, vR z1] h Q ↔ Rn r 30 50 [l0, l1, l2] [vI 0, vI x0, vR z1] h Q := Rn_nx pg30 rfl rfl
theorem sX6_clear_50 (hk : hK h a2 = 40) (hx : ¬ (x1 < 0 ∨ hL h a2 ≤ x1.toNatClampNeg)) : Rn r 30 50 [l0, l1, l2] [vI x0, vI x1, vR (some a2)] h Q ↔ Rn r 30 51 [l0, l1, l2] [] (putI h a2 x1.toNatClampNeg x0) Q := Rn_nx pg30 rfl ((if_pos hk).trans (if_neg hx))
theorem sX6_clear_51 : Rn r 30 51 [some (vR z), l1, l2] [] h Q ↔ Rn r 30 52 [some (vR z), l1, l2] [vR z] h Q := Rn_nx pg30 rfl rfl
theorem sX6_clear_52 (hk : hK h a0 = 15) : Rn r 30 52 [l0, l1, l2] [vR (some a0)] h Q ↔ Rn r 30 55 [l0, l1, l2] [vR (hR h a0 40)] h Q := Rn_nx pg30 rfl (if_pos ⟨(hk ▸ Nat.le_refl _), (hk ▸ Nat.le_refl _)⟩)
theorem sX6_clear_55 : Rn r 30 55 [some (vR z), l1, l2] [vR z0] h Q ↔ Rn r 30 56 [some (vR z), l1, l2] [vR z, vR z0] h Q := Rn_nx pg30 rfl rfl
theorem sX6_clear_56 (hk : hK h a0 = 15) : Rn r 30 56 [l0, l1, l2] [vR (some a0), vR z1] h Q ↔ Rn r 30 59 [l0, l1, l2] [vI (hI h a0 2), vR z1] h Q := Rn_nx pg30 rfl (if_pos ⟨(hk ▸ Nat.le_refl _), (hk ▸ Nat.le_refl _)⟩)
theorem sX6_clear_59 : Rn r 30 59 [l0, l1, l2] [vI x0, vR z1] h Q ↔ Rn r 30 60 [l0, l1, l2] [vI 0, vI x0, vR z1] h Q := Rn_nx pg30 rfl rfl
theorem sX6_clear_60 (hk : hK h a2 = 40) (hx : ¬ (x1 < 0 ∨ hL h a2 ≤ x1.toNatClampNeg)) : Rn r 30 60 [l0, l1, l2] [vI x0, vI x1, vR (some a2)] h Q ↔ Rn r 30 61 [l0, l1, l2] [] (putI h a2 x1.toNatClampNeg x0) Q := Rn_nx pg30 rfl ((if_pos hk).trans (if_neg hx))
theorem sX6_clear_61 : Rn r 30 61 [l0, l1, l2] [] h Q ↔ Rn r 30 62 [l0, l1, l2] [vI 0] h Q := Rn_nx pg30 rfl rfl
theorem sX6_clear_62 : Rn r 30 62 [l0, l1, l2] [vI x0] h Q ↔ Rn r 30 63 [l0, l1, some (vI x0)] [] h Q := Rn_nx pg30 rfl rfl
theorem sX6_clear_63 : Rn r 30 63 [l0, l1, some (vI x)] [] h Q ↔ Rn r 30 64 [l0, l1, some (vI x)] [vI x] h Q := Rn_nx pg30 rfl rfl
theorem sX6_clear_64 : Rn r 30 64 [l0, l1, l2] [vI x0] h Q ↔ Rn r 30 65 [l0, l1, l2] [vI 4, vI x0] h Q := Rn_nx pg30 rfl rfl
theorem sX6_clear_65 : Rn r 30 65 [l0, l1, l2] [vI x0, vI x1] h Q ↔ if x0 ≤ x1 then Rn r 30 153 [l0, l1, l2] [] h Q else Rn r 30 68 [l0, l1, l2] [] h Q := Rn_if pg30 rfl rfl rfl
theorem sX6_clear_68 : Rn r 30 68 [some (vR z), l1, l2] [] h Q ↔ Rn r 30 69 [some (vR z), l1, l2] [vR z] h Q := Rn_nx pg30 rfl rfl
theorem sX6_clear_69 (hk : hK h a0 = 15) : Rn r 30 69 [l0, l1, l2] [vR (some a0)] h Q ↔ Rn r 30 72 [l0, l1, l2] [vR (hR h a0 4)] h Q := Rn_nx pg30 rfl (if_pos ⟨(hk ▸ Nat.le_refl _), (hk ▸ Nat.le_refl _)⟩)
theorem sX6_clear_72 : Rn r 30 72 [some (vR z), l1, l2] [vR z0] h Q ↔ Rn r 30 73 [some (vR z), l1, l2] [vR z, vR z0] h Q := Rn_nx pg30 rfl rfl
theorem sX6_clear_73 (hk : hK h a0 = 15) : Rn r 30 73 [l0, l1, l2] [vR (some a0), vR z1] h Q ↔ Rn r 30 76 [l0, l1, l2] [vI (hI h a0 2), vR z1] h Q := Rn_nx pg30 rfl (if_pos ⟨(hk ▸ Nat.le_refl _), (hk ▸ Nat.le_refl _)⟩)
theorem sX6_clear_76 : Rn r 30 76 [l0, l1, l2] [vI x0, vR z1] h Q ↔ Rn r 30 78 [l0, l1, l2] [vI 16, vI x0, vR z1] h Q := Rn_nx pg30 rfl rfl
theorem sX6_clear_78 : Rn r 30 78 [l0, l1, l2] [vI x0, vI x1, vR z2] h Q ↔ Rn r 30 79 [l0, l1, l2] [vI (x1 * x0), vR z2] h Q := Rn_nx pg30 rfl rfl
theorem sX6_clear_79 : Rn r 30 79 [l0, l1, some (vI x)] [vI x0, vR z1] h Q ↔ Rn r 30 80 [l0, l1, some (vI x)] [vI x, vI x0, vR z1] h Q := Rn_nx pg30 rfl rfl
theorem sX6_clear_80 : Rn r 30 80 [l0, l1, l2] [vI x0, vI x1, vR z2] h Q ↔ Rn r 30 81 [l0, l1, l2] [vI (x1 + x0), vR z2] h Q := Rn_nx pg30 rfl rfl
theorem sX6_clear_81 : Rn r 30 81 [l0, l1, some (vI x)] [vI x0, vR z1] h Q ↔ Rn r 30 82 [l0, l1, some (vI x)] [vI x, vI x0, vR z1] h Q := Rn_nx pg30 rfl rfl
theorem sX6_clear_82 : Rn r 30 82 [l0, l1, l2] [vI x0, vI x1, vR z2] h Q ↔ if x0 ≠ 0 then Rn r 30 91 [l0, l1, l2] [vI x1, vR z2] h Q else Rn r 30 85 [l0, l1, l2] [vI x1, vR z2] h Q := Rn_if pg30 rfl rfl rfl
theorem sX6_clear_85 : Rn r 30 85 [l0, l1, l2] [vI x0, vR z1] h Q ↔ Rn r 30 88 [l0, l1, l2] [vL 6384748, vI x0, vR z1] h Q := Rn_nx pg30 rfl rfl
theorem sX6_clear_88 : Rn r 30 88 [l0, l1, l2] [vL y0, vI x1, vR z2] h Q ↔ Rn r 30 116 [l0, l1, l2] [vL y0, vI x1, vR z2] h Q := Rn_nx pg30 rfl rfl
theorem sX6_clear_91 : Rn r 30 91 [l0, l1, some (vI x)] [vI x0, vR z1] h Q ↔ Rn r 30 92 [l0, l1, some (vI x)] [vI x, vI x0, vR z1] h Q := Rn_nx pg30 rfl rfl
theorem sX6_clear_92 : Rn r 30 92 [l0, l1, l2] [vI x0, vI x1, vR z2] h Q ↔ Rn r 30 93 [l0, l1, l2] [vI 1, vI x0, vI x1, vR z2] h Q := Rn_nx pg30 rfl rfl
theorem sX6_clear_93 : Rn r 30 93 [l0, l1, l2] [vI x0, vI x1, vI x2, vR z3] h Q ↔ if x1 ≠ x0 then Rn r 30 102 [l0, l1, l2] [vI x2, vR z3] h Q else Rn r 30 96 [l0, l1, l2] [vI x2, vR z3] h Q := Rn_if pg30 rfl rfl rfl
theorem sX6_clear_96 : Rn r 30 96 [l0, l1, l2] [vI x0, vR z1] h Q ↔ Rn r 30 99 [l0, l1, l2] [vL 482854660462, vI x0, vR z1] h Q := Rn_nx pg30 rfl rfl
theorem sX6_clear_99 : Rn r 30 99 [l0, l1, l2] [vL y0, vI x1, vR z2] h Q ↔ Rn r 30 116 [l0, l1, l2] [vL y0, vI x1, vR z2] h Q := Rn_nx pg30 rfl rfl
theorem sX6_clear_102 : Rn r 30 102 [l0, l1, some (vI x)] [vI x0, vR z1] h Q ↔ Rn r 30 103 [l0, l1, some (vI x)] [vI x, vI x0, vR z1] h Q := Rn_nx pg30 rfl rfl
theorem sX6_clear_103 : Rn r 30 103 [l0, l1, l2] [vI x0, vI x1, vR z2] h Q ↔ Rn r 30 104 [l0, l1, l2] [vI 2, vI x0, vI x1, vR z2] h Q := Rn_nx pg30 rfl rfl
theorem sX6_clear_104 : Rn r 30 104 [l0, l1, l2] [vI x0, vI x1, vI x2, vR z3] h Q ↔ if x1 ≠ x0 then Rn r 30 113 [l0, l1, l2] [vI x2, vR z3] h Q else Rn r 30 107 [l0, l1, l2] [vI x2, vR z3] h Q := Rn_if pg30 rfl rfl rfl
theorem sX6_clear_107 : Rn r 30 107 [l0, l1, l2] [vI x0, vR z1] h Q ↔ Rn r 30 110 [l0, l1, l2] [vL 465726042981, vI x0, vR z1] h Q := Rn_nx pg30 rfl rfl
theorem sX6_clear_110 : Rn r 30 110 [l0, l1, l2] [vL y0, vI x1, vR z2] h Q ↔ Rn r 30 116 [l0, l1, l2] [vL y0, vI x1, vR z2] h Q := Rn_nx pg30 rfl rfl
theorem sX6_clear_113 : Rn r 30 113 [l0, l1, l2] [vI x0, vR z1] h Q ↔ Rn r 30 116 [l0, l1, l2] [vL 435711799154, vI x0, vR z1] h Q := Rn_nx pg30 rfl rfl
theorem sX6_clear_116 (hk : hK h a2 = 42) (hx : ¬ (x1 < 0 ∨ hL h a2 ≤ x1.toNatClampNeg)) : Rn r 30 116 [l0, l1, l2] [vL y0, vI x1, vR (some a2)] h Q ↔ Rn r 30 117 [l0, l1, l2] [] (putJ h a2 x1.toNatClampNeg y0) Q := Rn_nx pg30 rfl ((if_pos hk).trans (if_neg hx))
theorem sX6_clear_117 : Rn r 30 117 [some (vR z), l1, l2] [] h Q ↔ Rn r 30 118 [some (vR z), l1, l2] [vR z] h Q := Rn_nx pg30 rfl rfl
theorem sX6_clear_118 (hk : hK h a0 = 15) : Rn r 30 118 [l0, l1, l2] [vR (some a0)] h Q ↔ Rn r 30 121 [l0, l1, l2] [vR (hR h a0 5)] h Q := Rn_nx pg30 rfl (if_pos ⟨(hk ▸ Nat.le_refl _), (hk ▸ Nat.le_refl _)⟩)
theorem sX6_clear_121 : Rn r 30 121 [some (vR z), l1, l2] [vR z0] h Q ↔ Rn r 30 122 [some (vR z), l1, l2] [vR z, vR z0] h Q := Rn_nx pg30 rfl rfl
theorem sX6_clear_122 (hk : hK h a0 = 15) : Rn r 30 122 [l0, l1, l2] [vR (some a0), vR z1] h Q ↔ Rn r 30 125 [l0, l1, l2] [vI (hI h a0 2), vR z1] h Q := Rn_nx pg30 rfl (if_pos ⟨(hk ▸ Nat.le_refl _), (hk ▸ Nat.le_refl _)⟩)
theorem sX6_clear_125 : Rn r 30 125 [l0, l1, l2] [vI x0, vR z1] h Q ↔ Rn r 30 127 [l0, l1, l2] [vI 16, vI x0, vR z1] h Q := Rn_nx pg30 rfl rfl
theorem sX6_clear_127 : Rn r 30 127 [l0, l1, l2] [vI x0, vI x1, vR z2] h Q ↔ Rn r 30 128 [l0, l1, l2] [vI (x1 * x0), vR z2] h Q := Rn_nx pg30 rfl rfl
theorem sX6_clear_128 : Rn r 30 128 [l0, l1, some (vI x)] [vI x0, vR z1] h Q ↔ Rn r 30 129 [l0, l1, some (vI x)] [vI x, vI x0, vR z1] h Q := Rn_nx pg30 rfl rfl
theorem sX6_clear_129 : Rn r 30 129 [l0, l1, l2] [vI x0, vI x1, vR z2] h Q ↔ Rn r 30 130 [l0, l1, l2] [vI (x1 + x0), vR z2] h Q := Rn_nx pg30 rfl rfl
theorem sX6_clear_130 : Rn r 30 130 [l0, l1, l2] [vI x0, vR z1] h Q ↔ Rn r 30 131 [l0, l1, l2] [vI (-1), vI x0, vR z1] h Q := Rn_nx pg30 rfl rfl
theorem sX6_clear_131 (hk : hK h a2 = 40) (hx : ¬ (x1 < 0 ∨ hL h a2 ≤ x1.toNatClampNeg)) : Rn r 30 131 [l0, l1, l2] [vI x0, vI x1, vR (some a2)] h Q ↔ Rn r 30 132 [l0, l1, l2] [] (putI h a2 x1.toNatClampNeg x0) Q := Rn_nx pg30 rfl ((if_pos hk).trans (if_neg hx))
theorem sX6_clear_132 : Rn r 30 132 [some (vR z), l1, l2] [] h Q ↔ Rn r 30 133 [some (vR z), l1, l2] [vR z] h Q := Rn_nx pg30 rfl rfl
theorem sX6_clear_133 (hk : hK h a0 = 15) : Rn r 30 133 [l0, l1, l2] [vR (some a0)] h Q ↔ Rn r 30 136 [l0, l1, l2] [vR (hR h a0 6)] h Q := Rn_nx pg30 rfl (if_pos ⟨(hk ▸ Nat.le_refl _), (hk ▸ Nat.le_refl _)⟩)
theorem sX6_clear_136 : Rn r 30 136 [some (vR z), l1, l2] [vR z0] h Q ↔ Rn r 30 137 [some (vR z), l1, l2] [vR z, vR z0] h Q := Rn_nx pg30 rfl rfl
theorem sX6_clear_137 (hk : hK h a0 = 15) : Rn r 30 137 [l0, l1, l2] [vR (some a0), vR z1] h Q ↔ Rn r 30 140 [l0, l1, l2] [vI (hI h a0 2), vR z1] h Q := Rn_nx pg30 rfl (if_pos ⟨(hk ▸ Nat.le_refl _), (hk ▸ Nat.le_refl _)⟩)
theorem sX6_clear_140 : Rn r 30 140 [l0, l1, l2] [vI x0, vR z1] h Q ↔ Rn r 30 142 [l0, l1, l2] [vI 16, vI x0, vR z1] h Q := Rn_nx pg30 rfl rfl
theorem sX6_clear_142 : Rn r 30 142 [l0, l1, l2] [vI x0, vI x1, vR z2] h Q ↔ Rn r 30 143 [l0, l1, l2] [vI (x1 * x0), vR z2] h Q := Rn_nx pg30 rfl rfl
theorem sX6_clear_143 : Rn r 30 143 [l0, l1, some (vI x)] [vI x0, vR z1] h Q ↔ Rn r 30 144 [l0, l1, some (vI x)] [vI x, vI x0, vR z1] h Q := Rn_nx pg30 rfl rfl
theorem sX6_clear_144 : Rn r 30 144 [l0, l1, l2] [vI x0, vI x1, vR z2] h Q ↔ Rn r 30 145 [l0, l1, l2] [vI (x1 + x0), vR z2] h Q := Rn_nx pg30 rfl rfl
theorem sX6_clear_145 : Rn r 30 145 [l0, l1, l2] [vI x0, vR z1] h Q ↔ Rn r 30 146 [l0, l1, l2] [vI (-1), vI x0, vR z1] h Q := Rn_nx pg30 rfl rfl
theorem sX6_clear_146 (hk : hK h a2 = 40) (hx : ¬ (x1 < 0 ∨ hL h a2 ≤ x1.toNatClampNeg)) : Rn r 30 146 [l0, l1, l2] [vI x0, vI x1, vR (some a2)] h Q ↔ Rn r 30 147 [l0, l1, l2] [] (putI h a2 x1.toNatClampNeg x0) Q := Rn_nx pg30 rfl ((if_pos hk).trans (if_neg hx))
theorem sX6_clear_147 : Rn r 30 147 [l0, l1, some (vI x)] [] h Q ↔ Rn r 30 150 [l0, l1, some (vI (x + 1))] [] h Q := Rn_nx pg30 rfl rfl
theorem sX6_clear_150 : Rn r 30 150 [l0, l1, l2] [] h Q ↔ Rn r 30 63 [l0, l1, l2] [] h Q := Rn_nx pg30 rfl rfl
theorem sX6_clear_153 : Rn r 30 153 [l0, l1, l2] [] h Q ↔ Q (Sum.inl none) h := Rn_end pg30 rfl rfl
/-! 31 ThrowRules.put(I)V -/
theorem eX0_put : Cl r 31 [vR z0, vI x1] h Q ↔ Rn r 31 0 [some (vR z0), some (vI x1), none] [] h Q := Cl_in pg31 rfl
theorem sX0_put_0 : Rn r 31 0 [l0, l1, l2] [] h Q ↔ Rn r 31 2 [l0, l1, l2] [vI 24] h Q := Rn_nx pg31 rfl rfl
theorem sX0_put_2 : Rn r 31 2 [l0, l1, l2] [vI x0] h Q ↔ Rn r 31 3 [l0, l1, some (vI x0)] [] h Q := Rn_nx pg31 rfl rfl
theorem sX0_put_3 : Rn r 31 3 [l0, l1, some (vI x)] [] h Q ↔ Rn r 31 4 [l0, l1, some (vI x)] [vI x] h Q := Rn_nx pg31 rfl rfl
theorem sX0_put_4 : Rn r 31 4 [l0, l1, l2] [vI x0] h Q ↔ if x0 < 0 then Rn r 31 36 [l0, l1, l2] [] h Q else Rn r 31 7 [l0, l1, l2] [] h Q := Rn_if pg31 rfl rfl rfl
theorem sX0_put_7 : Rn r 31 7 [some (vR z), l1, l2] [] h Q ↔ Rn r 31 8 [some (vR z), l1, l2] [vR z] h Q := Rn_nx pg31 rfl rfl
theorem sX0_put_8 (hk : hK h a0 = 1) : Rn r 31 8 [l0, l1, l2] [vR (some a0)] h Q ↔ Rn r 31 11 [l0, l1, l2] [vR (hR h a0 0)] h Q := Rn_nx pg31 rfl (if_pos ⟨(hk ▸ Nat.le_refl _), (hk ▸ Nat.le_refl _)⟩)
theorem sX0_put_11 : Rn r 31 11 [some (vR z), l1, l2] [vR z0] h Q ↔ Rn r 31 12 [some (vR z), l1, l2] [vR z, vR z0] h Q := Rn_nx pg31 rfl rfl
theorem sX0_put_12 (hk : hK h a0 = 1) : Rn r 31 12 [l0, l1, l2] [vR (some a0), vR z1] h Q ↔ Rn r 31 15 [l0, l1, l2] [vI (hI h a0 1), vR z1] h Q := Rn_nx pg31 rfl (if_pos ⟨(hk ▸ Nat.le_refl _), (hk ▸ Nat.le_refl _)⟩)
theorem sX0_put_15 : Rn r 31 15 [l0, some (vI x), l2] [vI x0, vR z1] h Q ↔ Rn r 31 16 [l0, some (vI x), l2] [vI x, vI x0, vR z1] h Q := Rn_nx pg31 rfl rfl
theorem sX0_put_16 : Rn r 31 16 [l0, l1, some (vI x)] [vI x0, vI x1, vR z2] h Q ↔ Rn r 31 17 [l0, l1, some (vI x)] [vI x, vI x0, vI x1, vR z2] h Q := Rn_nx pg31 rfl rfl
theorem sX0_put_17 : Rn r 31 17 [l0, l1, l2] [vI x0, vI x1, vI x2, vR z3] h Q ↔ Rn r 31 18 [l0, l1, l2] [vI (x1 >>> (x0 &&& 31)), vI x2, vR z3] h Q := Rn_nx pg31 rfl rfl
theorem sX0_put_18 : Rn r 31 18 [l0, l1, l2] [vI x0, vI x1, vR z2] h Q ↔ Rn r 31 19 [l0, l1, l2] [vI x0.toInt8.toInt32, vI x1, vR z2] h Q := Rn_nx pg31 rfl rfl
theorem sX0_put_19 (hk : hK h a2 = 44) (hf : am_fit 5 x0 = true) (hx : ¬ (x1 < 0 ∨ hL h a2 ≤ x1.toNatClampNeg)) : Rn r 31 19 [l0, l1, l2] [vI x0, vI x1, vR (some a2)] h Q ↔ Rn r 31 20 [l0, l1, l2] [] (putI h a2 x1.toNatClampNeg x0) Q := Rn_nx pg31 rfl ((if_pos hk).trans ((if_pos hf).trans (if_neg hx)))
theorem sX0_put_20 : Rn r 31 20 [some (vR z), l1, l2] [] h Q ↔ Rn r 31 21 [some (vR z), l1, l2] [vR z] h Q := Rn_nx pg31 rfl rfl
theorem sX0_put_21 : Rn r 31 21 [l0, l1, l2] [vR z0] h Q ↔ Rn r 31 22 [l0, l1, l2] [vR z0, vR z0] h Q := Rn_nx pg31 rfl rfl
theorem sX0_put_22 (hk : hK h a0 = 1) : Rn r 31 22 [l0, l1, l2] [vR (some a0), vR z1] h Q ↔ Rn r 31 25 [l0, l1, l2] [vI (hI h a0 1), vR z1] h Q := Rn_nx pg31 rfl (if_pos ⟨(hk ▸ Nat.le_refl _), (hk ▸ Nat.le_refl _)⟩)
theorem sX0_put_25 : Rn r 31 25 [l0, l1, l2] [vI x0, vR z1] h Q ↔ Rn r 31 26 [l0, l1, l2] [vI 1, vI x0, vR z1] h Q := Rn_nx pg31 rfl rfl
theorem sX0_put_26 : Rn r 31 26 [l0, l1, l2] [vI x0, vI x1, vR z2] h Q ↔ Rn r 31 27 [l0, l1, l2] [vI (x1 + x0), vR z2] h Q := Rn_nx pg31 rfl rfl
theorem sX0_put_27 (hk : hK h a1 = 1) : Rn r 31 27 [l0, l1, l2] [vI x0, vR (some a1)] h Q ↔ Rn r 31 30 [l0, l1, l2] [] (putI h a1 1 x0) Q := Rn_nx pg31 rfl ((if_pos ⟨(hk ▸ Nat.le_refl _), (hk ▸ Nat.le_refl _)⟩).trans rfl)
theorem sX0_put_30 : Rn r 31 30 [l0, l1, some (vI x)] [] h Q ↔ Rn r 31 33 [l0, l1, some (vI (x + (-8)))] [] h Q := Rn_nx pg31 rfl rfl
theorem sX0_put_33 : Rn r 31 33 [l0, l1, l2] [] h Q ↔ Rn r 31 3 [l0, l1, l2] [] h Q := Rn_nx pg31 rfl rfl
theorem sX0_put_36 : Rn r 31 36 [l0, l1, l2] [] h Q ↔ Q (Sum.inl none) h := Rn_end pg31 rfl rfl
/-! 32 ThrowRules.isIn(III)Z -/
theorem eX0_isIn : Cl r 32 [vI x0, vI x1, vI x2] h Q ↔ Rn r 32 0 [some (vI x0), some (vI x1), some (vI x2)] [] h Q := Cl_in pg32 rfl
theorem sX0_isIn_0 : Rn r 32 0 [some (vI x), l1, l2] [] h Q ↔ Rn r 32 1 [some (vI x), l1, l2] [vI x] h Q := Rn_nx pg32 rfl rfl
theorem sX0_isIn_1 : Rn r 32 1 [l0, some (vI x), l2] [vI x0] h Q ↔ Rn r 32 2 [l0, some (vI x), l2] [vI x, vI x0] h Q := Rn_nx pg32 rfl rfl
theorem sX0_isIn_2 : Rn r 32 2 [l0, l1, l2] [vI x0, vI x1] h Q ↔ if x1 < x0 then Rn r 32 14 [l0, l1, l2] [] h Q else Rn r 32 5 [l0, l1, l2] [] h Q := Rn_if pg32 rfl rfl rfl
theorem sX0_isIn_5 : Rn r 32 5 [some (vI x), l1, l2] [] h Q ↔ Rn r 32 6 [some (vI x), l1, l2] [vI x] h Q := Rn_nx pg32 rfl rfl
theorem sX0_isIn_6 : Rn r 32 6 [l0, l1, some (vI x)] [vI x0] h Q ↔ Rn r 32 7 [l0, l1, some (vI x)] [vI x, vI x0] h Q := Rn_nx pg32 rfl rfl
theorem sX0_isIn_7 : Rn r 32 7 [l0, l1, l2] [vI x0, vI x1] h Q ↔ if x0 < x1 then Rn r 32 14 [l0, l1, l2] [] h Q else Rn r 32 10 [l0, l1, l2] [] h Q := Rn_if pg32 rfl rfl rfl
theorem sX0_isIn_10 : Rn r 32 10 [l0, l1, l2] [] h Q ↔ Rn r 32 11 [l0, l1, l2] [vI 1] h Q := Rn_nx pg32 rfl rfl
theorem sX0_isIn_11 : Rn r 32 11 [l0, l1, l2] [vI x0] h Q ↔ Rn r 32 15 [l0, l1, l2] [vI x0] h Q := Rn_nx pg32 rfl rfl
theorem sX0_isIn_14 : Rn r 32 14 [l0, l1, l2] [] h Q ↔ Rn r 32 15 [l0, l1, l2] [vI 0] h Q := Rn_nx pg32 rfl rfl
theorem sX0_isIn_15 (hf : am_fit 4 x0 = true) : Rn r 32 15 [l0, l1, l2] [vI x0] h Q ↔ Q (Sum.inl (some (vI x0))) h := Rn_end pg32 rfl (if_pos hf)
/-! 33 ThrowRules$Reader.read([BI)LThrowRules$Unit; -/
theorem eX1_read : Cl r 33 [vR z0, vR z1, vI x2] h Q ↔ Rn r 33 0 [some (vR z0), some (vR z1), some (vI x2)] [] h Q := Cl_in pg33 rfl
theorem sX1_read_0 : Rn r 33 0 [some (vR z), l1, l2] [] h Q ↔ Rn r 33 1 [some (vR z), l1, l2] [vR z] h Q := Rn_nx pg33 rfl rfl
theorem sX1_read_1 : Rn r 33 1 [l0, some (vR z), l2] [vR z0] h Q ↔ Rn r 33 2 [l0, some (vR z), l2] [vR z, vR z0] h Q := Rn_nx pg33 rfl rfl
theorem sX1_read_2 (hk : hK h a1 = 2) : Rn r 33 2 [l0, l1, l2] [vR z0, vR (some a1)] h Q ↔ Rn r 33 5 [l0, l1, l2] [] (putR h a1 1 z0) Q := Rn_nx pg33 rfl ((if_pos ⟨(hk ▸ Nat.le_refl _), (hk ▸ Nat.le_refl _)⟩).trans rfl)
theorem sX1_read_5 : Rn r 33 5 [some (vR z), l1, l2] [] h Q ↔ Rn r 33 6 [some (vR z), l1, l2] [vR z] h Q := Rn_nx pg33 rfl rfl
theorem sX1_read_6 : Rn r 33 6 [l0, l1, some (vI x)] [vR z0] h Q ↔ Rn r 33 7 [l0, l1, some (vI x)] [vI x, vR z0] h Q := Rn_nx pg33 rfl rfl
theorem sX1_read_7 (hk : hK h a1 = 2) : Rn r 33 7 [l0, l1, l2] [vI x0, vR (some a1)] h Q ↔ Rn r 33 10 [l0, l1, l2] [] (putI h a1 2 x0) Q := Rn_nx pg33 rfl ((if_pos ⟨(hk ▸ Nat.le_refl _), (hk ▸ Nat.le_refl _)⟩).trans rfl)
theorem sX1_read_10 : Rn r 33 10 [some (vR z), l1, l2] [] h Q ↔ Rn r 33 11 [some (vR z), l1, l2] [vR z] h Q := Rn_nx pg33 rfl rfl
theorem sX1_read_11 : Rn r 33 11 [l0, l1, l2] [vR z0] h Q ↔ Rn r 33 12 [l0, l1, l2] [vI 0, vR z0] h Q := Rn_nx pg33 rfl rfl
theorem sX1_read_12 (hk : hK h a1 = 2) : Rn r 33 12 [l0, l1, l2] [vI x0, vR (some a1)] h Q ↔ Rn r 33 15 [l0, l1, l2] [] (putI h a1 3 x0) Q := Rn_nx pg33 rfl ((if_pos ⟨(hk ▸ Nat.le_refl _), (hk ▸ Nat.le_refl _)⟩).trans rfl)
theorem sX1_read_15 : Rn r 33 15 [some (vR z), l1, l2] [] h Q ↔ Rn r 33 16 [some (vR z), l1, l2] [vR z] h Q := Rn_nx pg33 rfl rfl
theorem sX1_read_16 : Rn r 33 16 [l0, l1, l2] [vR z0] h Q ↔ Rn r 33 17 [l0, l1, l2] [vI 0, vR z0] h Q := Rn_nx pg33 rfl rfl
theorem sX1_read_17 (hk : hK h a1 = 2) : Rn r 33 17 [l0, l1, l2] [vI x0, vR (some a1)] h Q ↔ Rn r 33 20 [l0, l1, l2] [] (putI h a1 9 x0) Q := Rn_nx pg33 rfl ((if_pos ⟨(hk ▸ Nat.le_refl _), (hk ▸ Nat.le_refl _)⟩).trans rfl)
theorem sX1_read_20 : Rn r 33 20 [some (vR z), l1, l2] [] h Q ↔ Rn r 33 21 [some (vR z), l1, l2] [vR z] h Q := Rn_nx pg33 rfl rfl
theorem sX1_read_21 (hk : hK h a0 = 2) : Rn r 33 21 [l0, l1, l2] [vR (some a0)] h Q ↔ Rn r 33 24 [l0, l1, l2] [vR (hR h a0 10)] h Q := Rn_nx pg33 rfl (if_pos ⟨(hk ▸ Nat.le_refl _), (hk ▸ Nat.le_refl _)⟩)
theorem sX1_read_24 (hk : hK h a0 = 4) : Rn r 33 24 [l0, l1, l2] [vR (some a0)] h Q ↔ Cl r 79 [vR (some a0)] h (Kt r 33 27 [l0, l1, l2] [] Q) := Rn_call pg33 rfl (by simp only [am_exec, am_inv, am_pop, am_lk, hk]; rfl) pg79 rfl rfl rfl
theorem sX1_read_27 : Rn r 33 27 [some (vR z), l1, l2] [] h Q ↔ Rn r 33 28 [some (vR z), l1, l2] [vR z] h Q := Rn_nx pg33 rfl rfl
theorem sX1_read_28 (hk : hK h a0 = 2) : Rn r 33 28 [l0, l1, l2] [vR (some a0)] h Q ↔ Rn r 33 31 [l0, l1, l2] [vR (hR h a0 11)] h Q := Rn_nx pg33 rfl (if_pos ⟨(hk ▸ Nat.le_refl _), (hk ▸ Nat.le_refl _)⟩)
theorem sX1_read_31 (hk : hK h a0 = 4) : Rn r 33 31 [l0, l1, l2] [vR (some a0)] h Q ↔ Cl r 79 [vR (some a0)] h (Kt r 33 34 [l0, l1, l2] [] Q) := Rn_call pg33 rfl (by simp only [am_exec, am_inv, am_pop, am_lk, hk]; rfl) pg79 rfl rfl rfl
theorem sX1_read_34 : Rn r 33 34 [some (vR z), l1, l2] [] h Q ↔ Rn r 33 35 [some (vR z), l1, l2] [vR z] h Q := Rn_nx pg33 rfl rfl
theorem sX1_read_35 (hk : hK h a0 = 2) : Rn r 33 35 [l0, l1, l2] [vR (some a0)] h Q ↔ Rn r 33 38 [l0, l1, l2] [vR (hR h a0 12)] h Q := Rn_nx pg33 rfl (if_pos ⟨(hk ▸ Nat.le_refl _), (hk ▸ Nat.le_refl _)⟩)
theorem sX1_read_38 (hk : hK h a0 = 4) : Rn r 33 38 [l0, l1, l2] [vR (some a0)] h Q ↔ Cl r 79 [vR (some a0)] h (Kt r 33 41 [l0, l1, l2] [] Q) := Rn_call pg33 rfl (by simp only [am_exec, am_inv, am_pop, am_lk, hk]; rfl) pg79 rfl rfl rfl
theorem sX1_read_41 : Rn r 33 41 [some (vR z), l1, l2] [] h Q ↔ Rn r 33 42 [some (vR z), l1, l2] [vR z] h Q := Rn_nx pg33 rfl rfl
theorem sX1_read_42 (hk : hK h a0 = 2) : Rn r 33 42 [l0, l1, l2] [vR (some a0)] h Q ↔ Rn r 33 45 [l0, l1, l2] [vR (hR h a0 13)] h Q := Rn_nx pg33 rfl (if_pos ⟨(hk ▸ Nat.le_refl _), (hk ▸ Nat.le_refl _)⟩)
theorem sX1_read_45 (hk : hK h a0 = 4) : Rn r 33 45 [l0, l1, l2] [vR (some a0)] h Q ↔ Cl r 79 [vR (some a0)] h (Kt r 33 48 [l0, l1, l2] [] Q) := Rn_call pg33 rfl (by simp only [am_exec, am_inv, am_pop, am_lk, hk]; rfl) pg79 rfl rfl rfl
theorem sX1_read_48 : Rn r 33 48 [some (vR z), l1, l2] [] h Q ↔ Rn r 33 49 [some (vR z), l1, l2] [vR z] h Q := Rn_nx pg33 rfl rfl
theorem sX1_read_49 (hk : hK h a0 = 2) : Rn r 33 49 [l0, l1, l2] [vR (some a0)] h Q ↔ Rn r 33 52 [l0, l1, l2] [vR (hR h a0 17)] h Q := Rn_nx pg33 rfl (if_pos ⟨(hk ▸ Nat.le_refl _), (hk ▸ Nat.le_refl _)⟩)
theorem sX1_read_52 (hk : hK h a0 = 4) : Rn r 33 52 [l0, l1, l2] [vR (some a0)] h Q ↔ Cl r 79 [vR (some a0)] h (Kt r 33 55 [l0, l1, l2] [] Q) := Rn_call pg33 rfl (by simp only [am_exec, am_inv, am_pop, am_lk, hk]; rfl) pg79 rfl rfl rfl
theorem sX1_read_55 : Rn r 33 55 [some (vR z), l1, l2] [] h Q ↔ Rn r 33 56 [some (vR z), l1, l2] [vR z] h Q := Rn_nx pg33 rfl rfl
theorem sX1_read_56 : Rn r 33 56 [l0, l1, l2] [vR z0] h Q ↔ Rn r 33 59 [l0, l1, l2] [vR (some (hN h)), vR z0] (newC h 5 6) Q := Rn_nx pg33 rfl rfl
theorem sX1_read_59 : Rn r 33 59 [l0, l1, l2] [vR z0, vR z1] h Q ↔ Rn r 33 60 [l0, l1, l2] [vR z0, vR z0, vR z1] h Q := Rn_nx pg33 rfl rfl
theorem sX1_read_60 (hk : 0 < hK h a0) (hk2 : hK h a0 < 40) : Rn r 33 60 [l0, l1, l2] [vR (some a0), vR z1, vR z2] h Q ↔ Cl r 28 [vR (some a0)] h (Kt r 33 63 [l0, l1, l2] [vR z1, vR z2] Q) := Rn_call pg33 rfl (if_pos ⟨hk, hk2⟩) pg28 rfl rfl rfl
theorem sX1_read_63 (hk : hK h a1 = 2) : Rn r 33 63 [l0, l1, l2] [vR z0, vR (some a1)] h Q ↔ Rn r 33 66 [l0, l1, l2] [] (putR h a1 7 z0) Q := Rn_nx pg33 rfl ((if_pos ⟨(hk ▸ Nat.le_refl _), (hk ▸ Nat.le_refl _)⟩).trans rfl)
theorem sX1_read_66 : Rn r 33 66 [some (vR z), l1, l2] [] h Q ↔ Rn r 33 67 [some (vR z), l1, l2] [vR z] h Q := Rn_nx pg33 rfl rfl
theorem sX1_read_67 (hk : hK h a0 = 2) : Rn r 33 67 [l0, l1, l2] [vR (some a0)] h Q ↔ Cl r 80 [vR (some a0)] h (Kt r 33 70 [l0, l1, l2] [] Q) := Rn_call pg33 rfl (by simp only [am_exec, am_inv, am_pop, am_lk, hk]; rfl) pg80 rfl rfl rfl
theorem sX1_read_70 : Rn r 33 70 [some (vR z), l1, l2] [] h Q ↔ Rn r 33 71 [some (vR z), l1, l2] [vR z] h Q := Rn_nx pg33 rfl rfl
theorem sX1_read_71 (hk : hK h a0 = 2) : Rn r 33 71 [l0, l1, l2] [vR (some a0)] h Q ↔ Rn r 33 74 [l0, l1, l2] [vI (hI h a0 6)] h Q := Rn_nx pg33 rfl (if_pos ⟨(hk ▸ Nat.le_refl _), (hk ▸ Nat.le_refl _)⟩)
theorem sX1_read_74 : Rn r 33 74 [l0, l1, l2] [vI x0] h Q ↔ Rn r 33 75 [l0, l1, l2] [vI (-1), vI x0] h Q := Rn_nx pg33 rfl rfl
theorem sX1_read_75 : Rn r 33 75 [l0, l1, l2] [vI x0, vI x1] h Q ↔ if x1 = x0 then Rn r 33 134 [l0, l1, l2] [] h Q else Rn r 33 78 [l0, l1, l2] [] h Q := Rn_if pg33 rfl rfl rfl
theorem sX1_read_78 : Rn r 33 78 [some (vR z), l1, l2] [] h Q ↔ Rn r 33 79 [some (vR z), l1, l2] [vR z] h Q := Rn_nx pg33 rfl rfl
theorem sX1_read_79 : Rn r 33 79 [l0, l1, l2] [vR z0] h Q ↔ Rn r 33 81 [l0, l1, l2] [vR (some (hE h 5)), vR z0] h Q := Rn_nx pg33 rfl rfl
theorem sX1_read_81 (hk : hK h a1 = 2) : Rn r 33 81 [l0, l1, l2] [vR z0, vR (some a1)] h Q ↔ Cl r 81 [vR (some a1), vR z0] h (Kt r 33 84 [l0, l1, l2] [] Q) := Rn_call pg33 rfl (by simp only [am_exec, am_inv, am_pop, am_lk, hk]; rfl) pg81 rfl rfl rfl
theorem sX1_read_84 : Rn r 33 84 [l0, l1, l2] [vI x0] h Q ↔ if x0 = 0 then Rn r 33 94 [l0, l1, l2] [] h Q else Rn r 33 87 [l0, l1, l2] [] h Q := Rn_if pg33 rfl rfl rfl
theorem sX1_read_87 : Rn r 33 87 [some (vR z), l1, l2] [] h Q ↔ Rn r 33 88 [some (vR z), l1, l2] [vR z] h Q := Rn_nx pg33 rfl rfl
theorem sX1_read_88 (hk : hK h a0 = 2) : Rn r 33 88 [l0, l1, l2] [vR (some a0)] h Q ↔ Cl r 82 [vR (some a0)] h (Kt r 33 91 [l0, l1, l2] [] Q) := Rn_call pg33 rfl (by simp only [am_exec, am_inv, am_pop, am_lk, hk]; rfl) pg82 rfl rfl rfl
theorem sX1_read_91 : Rn r 33 91 [l0, l1, l2] [] h Q ↔ Rn r 33 70 [l0, l1, l2] [] h Q := Rn_nx pg33 rfl rfl
theorem sX1_read_94 : Rn r 33 94 [some (vR z), l1, l2] [] h Q ↔ Rn r 33 95 [some (vR z), l1, l2] [vR z] h Q := Rn_nx pg33 rfl rfl
theorem sX1_read_95 : Rn r 33 95 [some (vR z), l1, l2] [vR z0] h Q ↔ Rn r 33 96 [some (vR z), l1, l2] [vR z, vR z0] h Q := Rn_nx pg33 rfl rfl
theorem sX1_read_96 : Rn r 33 96 [l0, l1, l2] [vR z0, vR z1] h Q ↔ Rn r 33 98 [l0, l1, l2] [vR (some (hE h 9)), vR z0, vR z1] h Q := Rn_nx pg33 rfl rfl
theorem sX1_read_98 (hk : hK h a1 = 2) : Rn r 33 98 [l0, l1, l2] [vR z0, vR (some a1), vR z2] h Q ↔ Cl r 81 [vR (some a1), vR z0] h (Kt r 33 101 [l0, l1, l2] [vR z2] Q) := Rn_call pg33 rfl (by simp only [am_exec, am_inv, am_pop, am_lk, hk]; rfl) pg81 rfl rfl rfl
theorem sX1_read_101 : Rn r 33 101 [l0, l1, l2] [vI x0, vR z1] h Q ↔ if x0 = 0 then Rn r 33 123 [l0, l1, l2] [vR z1] h Q else Rn r 33 104 [l0, l1, l2] [vR z1] h Q := Rn_if pg33 rfl rfl rfl
theorem sX1_read_104 : Rn r 33 104 [some (vR z), l1, l2] [vR z0] h Q ↔ Rn r 33 105 [some (vR z), l1, l2] [vR z, vR z0] h Q := Rn_nx pg33 rfl rfl
theorem sX1_read_105 (hk : hK h a0 = 2) : Rn r 33 105 [l0, l1, l2] [vR (some a0), vR z1] h Q ↔ Rn r 33 108 [l0, l1, l2] [vR (hR h a0 7), vR z1] h Q := Rn_nx pg33 rfl (if_pos ⟨(hk ▸ Nat.le_refl _), (hk ▸ Nat.le_refl _)⟩)
theorem sX1_read_108 (hk : hK h a0 = 5) : Rn r 33 108 [l0, l1, l2] [vR (some a0), vR z1] h Q ↔ Rn r 33 111 [l0, l1, l2] [vR (hR h a0 2), vR z1] h Q := Rn_nx pg33 rfl (if_pos ⟨(hk ▸ Nat.le_refl _), (hk ▸ Nat.le_refl _)⟩)
theorem sX1_read_111 (hk : hK h a0 = 4) : Rn r 33 111 [l0, l1, l2] [vR (some a0), vR z1] h Q ↔ Cl r 34 [vR (some a0)] h (Kt r 33 114 [l0, l1, l2] [vR z1] Q) := Rn_call pg33 rfl (by simp only [am_exec, am_inv, am_pop, am_lk, hk]; rfl) pg34 rfl rfl rfl
theorem sX1_read_114 : Rn r 33 114 [l0, l1, l2] [vI x0, vR z1] h Q ↔ Rn r 33 116 [l0, l1, l2] [vI 12, vI x0, vR z1] h Q := Rn_nx pg33 rfl rfl
theorem sX1_read_116 : Rn r 33 116 [l0, l1, l2] [vI x0, vI x1, vR z2] h Q ↔ if x0 ≤ x1 then Rn r 33 123 [l0, l1, l2] [vR z2] h Q else Rn r 33 119 [l0, l1, l2] [vR z2] h Q := Rn_if pg33 rfl rfl rfl
theorem sX1_read_119 : Rn r 33 119 [l0, l1, l2] [vR z0] h Q ↔ Rn r 33 120 [l0, l1, l2] [vI 1, vR z0] h Q := Rn_nx pg33 rfl rfl
theorem sX1_read_120 : Rn r 33 120 [l0, l1, l2] [vI x0, vR z1] h Q ↔ Rn r 33 124 [l0, l1, l2] [vI x0, vR z1] h Q := Rn_nx pg33 rfl rfl
theorem sX1_read_123 : Rn r 33 123 [l0, l1, l2] [vR z0] h Q ↔ Rn r 33 124 [l0, l1, l2] [vI 0, vR z0] h Q := Rn_nx pg33 rfl rfl
theorem sX1_read_124 (hk : hK h a1 = 2) : Rn r 33 124 [l0, l1, l2] [vI x0, vR (some a1)] h Q ↔ Cl r 83 [vR (some a1), vI x0] h (Kt r 33 127 [l0, l1, l2] [] Q) := Rn_call pg33 rfl (by simp only [am_exec, am_inv, am_pop, am_lk, hk]; rfl) pg83 rfl rfl rfl
theorem sX1_read_127 : Rn r 33 127 [some (vR z), l1, l2] [] h Q ↔ Rn r 33 128 [some (vR z), l1, l2] [vR z] h Q := Rn_nx pg33 rfl rfl
theorem sX1_read_128 (hk : hK h a0 = 2) : Rn r 33 128 [l0, l1, l2] [vR (some a0)] h Q ↔ Cl r 84 [vR (some a0)] h (Kt r 33 131 [l0, l1, l2] [] Q) := Rn_call pg33 rfl (by simp only [am_exec, am_inv, am_pop, am_lk, hk]; rfl) pg84 rfl rfl rfl
theorem sX1_read_131 : Rn r 33 131 [l0, l1, l2] [] h Q ↔ Rn r 33 70 [l0, l1, l2] [] h Q := Rn_nx pg33 rfl rfl
theorem sX1_read_134 : Rn r 33 134 [some (vR z), l1, l2] [] h Q ↔ Rn r 33 135 [some (vR z), l1, l2] [vR z] h Q := Rn_nx pg33 rfl rfl
theorem sX1_read_135 (hk : hK h a0 = 2) : Rn r 33 135 [l0, l1, l2] [vR (some a0)] h Q ↔ Cl r 85 [vR (some a0)] h (Kt r 33 138 [l0, l1, l2] [] Q) := Rn_call pg33 rfl (by simp only [am_exec, am_inv, am_pop, am_lk, hk]; rfl) pg85 rfl rfl rfl
theorem sX1_read_138 : Rn r 33 138 [some (vR z), l1, l2] [] h Q ↔ Rn r 33 139 [some (vR z), l1, l2] [vR z] h Q := Rn_nx pg33 rfl rfl
theorem sX1_read_139 (hk : hK h a0 = 2) : Rn r 33 139 [l0, l1, l2] [vR (some a0)] h Q ↔ Cl r 86 [vR (some a0)] h (Kt r 33 142 [l0, l1, l2] [] Q) := Rn_call pg33 rfl (by simp only [am_exec, am_inv, am_pop, am_lk, hk]; rfl) pg86 rfl rfl rfl
theorem sX1_read_142 : Rn r 33 142 [some (vR z), l1, l2] [] h Q ↔ Rn r 33 143 [some (vR z), l1, l2] [vR z] h Q := Rn_nx pg33 rfl rfl
theorem sX1_read_143 (hk : hK h a0 = 2) : Rn r 33 143 [l0, l1, l2] [vR (some a0)] h Q ↔ Rn r 33 146 [l0, l1, l2] [vR (hR h a0 7)] h Q := Rn_nx pg33 rfl (if_pos ⟨(hk ▸ Nat.le_refl _), (hk ▸ Nat.le_refl _)⟩)
theorem sX1_read_146 : Rn r 33 146 [l0, l1, l2] [vR z0] h Q ↔ Q (Sum.inl (some (vR z0))) h := Rn_end pg33 rfl rfl
/-! 34 java/util/ArrayList.size()I -/
theorem eJ5_size : Cl r 34 [vR z0] h Q ↔ Rn r 34 0 [some (vR z0)] [] h Q := Cl_in pg34 rfl
theorem sJ5_size_0 : Rn r 34 0 [some (vR z)] [] h Q ↔ Rn r 34 1 [some (vR z)] [vR z] h Q := Rn_nx pg34 rfl rfl
theorem sJ5_size_1 (hk : hK h a0 = 4) : Rn r 34 1 [l0] [vR (some a0)] h Q ↔ Rn r 34 4 [l0] [vI (hI h a0 2)] h Q := Rn_nx pg34 rfl (if_pos ⟨(hk ▸ Nat.le_refl _), (hk ▸ Nat.le_refl _)⟩)
theorem sJ5_size_4 : Rn r 34 4 [l0] [vI x0] h Q ↔ Q (Sum.inl (some (vI x0))) h := Rn_end pg34 rfl rfl
/-! 35 ThrowRulesModel.advance()V -/
theorem eX6_advance : Cl r 35 [vR z0] h Q ↔ Rn r 35 0 [some (vR z0)] [] h Q := Cl_in pg35 rfl
theorem sX6_advance_0 : Rn r 35 0 [some (vR z)] [] h Q ↔ Rn r 35 1 [some (vR z)] [vR z] h Q := Rn_nx pg35 rfl rfl
theorem sX6_advance_1 (hk : hK h a0 = 15) : Rn r 35 1 [l0] [vR (some a0)] h Q ↔ Rn r 35 4 [l0] [vI (hI h a0 47)] h Q := Rn_nx pg35 rfl (if_pos ⟨(hk ▸ Nat.le_refl _), (hk ▸ Nat.le_refl _)⟩)
theorem sX6_advance_4 : Rn r 35 4 [some (vR z)] [vI x0] h Q ↔ Rn r 35 5 [some (vR z)] [vR z, vI x0] h Q := Rn_nx pg35 rfl rfl
theorem sX6_advance_5 (hk : hK h a0 = 15) : Rn r 35 5 [l0] [vR (some a0), vI x1] h Q ↔ Rn r 35 8 [l0] [vI (hI h a0 48), vI x1] h Q := Rn_nx pg35 rfl (if_pos ⟨(hk ▸ Nat.le_refl _), (hk ▸ Nat.le_refl _)⟩)
theorem sX6_advance_8 : Rn r 35 8 [l0] [vI x0, vI x1] h Q ↔ if x0 ≤ x1 then Rn r 35 52 [l0] [] h Q else Rn r 35 11 [l0] [] h Q := Rn_if pg35 rfl rfl rfl
theorem sX6_advance_11 : Rn r 35 11 [some (vR z)] [] h Q ↔ Rn r 35 12 [some (vR z)] [vR z] h Q := Rn_nx pg35 rfl rfl
theorem sX6_advance_12 (hk : hK h a0 = 15) : Rn r 35 12 [l0] [vR (some a0)] h Q ↔ Rn r 35 15 [l0] [vR (hR h a0 0)] h Q := Rn_nx pg35 rfl (if_pos ⟨(hk ▸ Nat.le_refl _), (hk ▸ Nat.le_refl _)⟩)
theorem sX6_advance_15 : Rn r 35 15 [some (vR z)] [vR z0] h Q ↔ Rn r 35 16 [some (vR z)] [vR z, vR z0] h Q := Rn_nx pg35 rfl rfl
theorem sX6_advance_16 (hk : hK h a0 = 15) : Rn r 35 16 [l0] [vR (some a0), vR z1] h Q ↔ Rn r 35 19 [l0] [vI (hI h a0 47), vR z1] h Q := Rn_nx pg35 rfl (if_pos ⟨(hk ▸ Nat.le_refl _), (hk ▸ Nat.le_refl _)⟩)
theorem sX6_advance_19 (hk : 40 ≤ hK h a1) (hk2 : hK h a1 ≤ 41) (hx : ¬ (x0 < 0 ∨ hL h a1 ≤ x0.toNatClampNeg)) : Rn r 35 19 [l0] [vI x0, vR (some a1)] h Q ↔ Rn r 35 20 [l0] [vI (hI h a1 x0.toNatClampNeg)] h Q := Rn_nx pg35 rfl ((if_pos ⟨hk, hk2⟩).trans (if_neg hx))
theorem sX6_advance_20 : Rn r 35 20 [l0] [vI x0] h Q ↔ Rn r 35 22 [l0] [vI 32, vI x0] h Q := Rn_nx pg35 rfl rfl
theorem sX6_advance_22 : Rn r 35 22 [l0] [vI x0, vI x1] h Q ↔ if x1 = x0 then Rn r 35 39 [l0] [] h Q else Rn r 35 25 [l0] [] h Q := Rn_if pg35 rfl rfl rfl
theorem sX6_advance_25 : Rn r 35 25 [some (vR z)] [] h Q ↔ Rn r 35 26 [some (vR z)] [vR z] h Q := Rn_nx pg35 rfl rfl
theorem sX6_advance_26 (hk : hK h a0 = 15) : Rn r 35 26 [l0] [vR (some a0)] h Q ↔ Rn r 35 29 [l0] [vR (hR h a0 0)] h Q := Rn_nx pg35 rfl (if_pos ⟨(hk ▸ Nat.le_refl _), (hk ▸ Nat.le_refl _)⟩)
theorem sX6_advance_29 : Rn r 35 29 [some (vR z)] [vR z0] h Q ↔ Rn r 35 30 [some (vR z)] [vR z, vR z0] h Q := Rn_nx pg35 rfl rfl
theorem sX6_advance_30 (hk : hK h a0 = 15) : Rn r 35 30 [l0] [vR (some a0), vR z1] h Q ↔ Rn r 35 33 [l0] [vI (hI h a0 47), vR z1] h Q := Rn_nx pg35 rfl (if_pos ⟨(hk ▸ Nat.le_refl _), (hk ▸ Nat.le_refl _)⟩)
theorem sX6_advance_33 (hk : 40 ≤ hK h a1) (hk2 : hK h a1 ≤ 41) (hx : ¬ (x0 < 0 ∨ hL h a1 ≤ x0.toNatClampNeg)) : Rn r 35 33 [l0] [vI x0, vR (some a1)] h Q ↔ Rn r 35 34 [l0] [vI (hI h a1 x0.toNatClampNeg)] h Q := Rn_nx pg35 rfl ((if_pos ⟨hk, hk2⟩).trans (if_neg hx))
theorem sX6_advance_34 : Rn r 35 34 [l0] [vI x0] h Q ↔ Rn r 35 36 [l0] [vI 10, vI x0] h Q := Rn_nx pg35 rfl rfl
theorem sX6_advance_36 : Rn r 35 36 [l0] [vI x0, vI x1] h Q ↔ if x1 ≠ x0 then Rn r 35 52 [l0] [] h Q else Rn r 35 39 [l0] [] h Q := Rn_if pg35 rfl rfl rfl
theorem sX6_advance_39 : Rn r 35 39 [some (vR z)] [] h Q ↔ Rn r 35 40 [some (vR z)] [vR z] h Q := Rn_nx pg35 rfl rfl
theorem sX6_advance_40 : Rn r 35 40 [l0] [vR z0] h Q ↔ Rn r 35 41 [l0] [vR z0, vR z0] h Q := Rn_nx pg35 rfl rfl
theorem sX6_advance_41 (hk : hK h a0 = 15) : Rn r 35 41 [l0] [vR (some a0), vR z1] h Q ↔ Rn r 35 44 [l0] [vI (hI h a0 47), vR z1] h Q := Rn_nx pg35 rfl (if_pos ⟨(hk ▸ Nat.le_refl _), (hk ▸ Nat.le_refl _)⟩)
theorem sX6_advance_44 : Rn r 35 44 [l0] [vI x0, vR z1] h Q ↔ Rn r 35 45 [l0] [vI 1, vI x0, vR z1] h Q := Rn_nx pg35 rfl rfl
theorem sX6_advance_45 : Rn r 35 45 [l0] [vI x0, vI x1, vR z2] h Q ↔ Rn r 35 46 [l0] [vI (x1 + x0), vR z2] h Q := Rn_nx pg35 rfl rfl
theorem sX6_advance_46 (hk : hK h a1 = 15) : Rn r 35 46 [l0] [vI x0, vR (some a1)] h Q ↔ Rn r 35 49 [l0] [] (putI h a1 47 x0) Q := Rn_nx pg35 rfl ((if_pos ⟨(hk ▸ Nat.le_refl _), (hk ▸ Nat.le_refl _)⟩).trans rfl)
theorem sX6_advance_49 : Rn r 35 49 [l0] [] h Q ↔ Rn r 35 0 [l0] [] h Q := Rn_nx pg35 rfl rfl
theorem sX6_advance_52 : Rn r 35 52 [some (vR z)] [] h Q ↔ Rn r 35 53 [some (vR z)] [vR z] h Q := Rn_nx pg35 rfl rfl
theorem sX6_advance_53 : Rn r 35 53 [some (vR z)] [vR z0] h Q ↔ Rn r 35 54 [some (vR z)] [vR z, vR z0] h Q := Rn_nx pg35 rfl rfl
theorem sX6_advance_54 (hk : hK h a0 = 15) : Rn r 35 54 [l0] [vR (some a0), vR z1] h Q ↔ Rn r 35 57 [l0] [vI (hI h a0 47), vR z1] h Q := Rn_nx pg35 rfl (if_pos ⟨(hk ▸ Nat.le_refl _), (hk ▸ Nat.le_refl _)⟩)
theorem sX6_advance_57 (hk : hK h a1 = 15) : Rn r 35 57 [l0] [vI x0, vR (some a1)] h Q ↔ Rn r 35 60 [l0] [] (putI h a1 49 x0) Q := Rn_nx pg35 rfl ((if_pos ⟨(hk ▸ Nat.le_refl _), (hk ▸ Nat.le_refl _)⟩).trans rfl)
theorem sX6_advance_60 : Rn r 35 60 [some (vR z)] [] h Q ↔ Rn r 35 61 [some (vR z)] [vR z] h Q := Rn_nx pg35 rfl rfl
theorem sX6_advance_61 : Rn r 35 61 [l0] [vR z0] h Q ↔ Rn r 35 62 [l0] [vL 0, vR z0] h Q := Rn_nx pg35 rfl rfl
theorem sX6_advance_62 (hk : hK h a1 = 15) : Rn r 35 62 [l0] [vL y0, vR (some a1)] h Q ↔ Rn r 35 65 [l0] [] (putJ h a1 50 y0) Q := Rn_nx pg35 rfl ((if_pos ⟨(hk ▸ Nat.le_refl _), (hk ▸ Nat.le_refl _)⟩).trans rfl)
theorem sX6_advance_65 : Rn r 35 65 [some (vR z)] [] h Q ↔ Rn r 35 66 [some (vR z)] [vR z] h Q := Rn_nx pg35 rfl rfl
theorem sX6_advance_66 (hk : hK h a0 = 15) : Rn r 35 66 [l0] [vR (some a0)] h Q ↔ Rn r 35 69 [l0] [vI (hI h a0 47)] h Q := Rn_nx pg35 rfl (if_pos ⟨(hk ▸ Nat.le_refl _), (hk ▸ Nat.le_refl _)⟩)
theorem sX6_advance_69 : Rn r 35 69 [some (vR z)] [vI x0] h Q ↔ Rn r 35 70 [some (vR z)] [vR z, vI x0] h Q := Rn_nx pg35 rfl rfl
theorem sX6_advance_70 (hk : hK h a0 = 15) : Rn r 35 70 [l0] [vR (some a0), vI x1] h Q ↔ Rn r 35 73 [l0] [vI (hI h a0 48), vI x1] h Q := Rn_nx pg35 rfl (if_pos ⟨(hk ▸ Nat.le_refl _), (hk ▸ Nat.le_refl _)⟩)
theorem sX6_advance_73 : Rn r 35 73 [l0] [vI x0, vI x1] h Q ↔ if x1 ≠ x0 then Rn r 35 84 [l0] [] h Q else Rn r 35 76 [l0] [] h Q := Rn_if pg35 rfl rfl rfl
theorem sX6_advance_76 : Rn r 35 76 [some (vR z)] [] h Q ↔ Rn r 35 77 [some (vR z)] [vR z] h Q := Rn_nx pg35 rfl rfl
theorem sX6_advance_77 : Rn r 35 77 [l0] [vR z0] h Q ↔ Rn r 35 78 [l0] [vI (-1), vR z0] h Q := Rn_nx pg35 rfl rfl
theorem sX6_advance_78 (hk : hK h a1 = 15) : Rn r 35 78 [l0] [vI x0, vR (some a1)] h Q ↔ Rn r 35 81 [l0] [] (putI h a1 51 x0) Q := Rn_nx pg35 rfl ((if_pos ⟨(hk ▸ Nat.le_refl _), (hk ▸ Nat.le_refl _)⟩).trans rfl)
theorem sX6_advance_81 : Rn r 35 81 [l0] [] h Q ↔ Rn r 35 236 [l0] [] h Q := Rn_nx pg35 rfl rfl
theorem sX6_advance_84 : Rn r 35 84 [some (vR z)] [] h Q ↔ Rn r 35 85 [some (vR z)] [vR z] h Q := Rn_nx pg35 rfl rfl
theorem sX6_advance_85 (hk : hK h a0 = 15) : Rn r 35 85 [l0] [vR (some a0)] h Q ↔ Rn r 35 88 [l0] [vR (hR h a0 0)] h Q := Rn_nx pg35 rfl (if_pos ⟨(hk ▸ Nat.le_refl _), (hk ▸ Nat.le_refl _)⟩)
theorem sX6_advance_88 : Rn r 35 88 [some (vR z)] [vR z0] h Q ↔ Rn r 35 89 [some (vR z)] [vR z, vR z0] h Q := Rn_nx pg35 rfl rfl
theorem sX6_advance_89 (hk : hK h a0 = 15) : Rn r 35 89 [l0] [vR (some a0), vR z1] h Q ↔ Rn r 35 92 [l0] [vI (hI h a0 47), vR z1] h Q := Rn_nx pg35 rfl (if_pos ⟨(hk ▸ Nat.le_refl _), (hk ▸ Nat.le_refl _)⟩)
theorem sX6_advance_92 (hk : 40 ≤ hK h a1) (hk2 : hK h a1 ≤ 41) (hx : ¬ (x0 < 0 ∨ hL h a1 ≤ x0.toNatClampNeg)) : Rn r 35 92 [l0] [vI x0, vR (some a1)] h Q ↔ Rn r 35 93 [l0] [vI (hI h a1 x0.toNatClampNeg)] h Q := Rn_nx pg35 rfl ((if_pos ⟨hk, hk2⟩).trans (if_neg hx))
theorem sX6_advance_93 : Rn r 35 93 [l0] [vI x0] h Q ↔ Cl r 67 [vI x0] h (Kt r 35 96 [l0] [] Q) := Rn_call pg35 rfl rfl pg67 rfl rfl rfl
theorem sX6_advance_96 : Rn r 35 96 [l0] [vI x0] h Q ↔ if x0 = 0 then Rn r 35 193 [l0] [] h Q else Rn r 35 99 [l0] [] h Q := Rn_if pg35 rfl rfl rfl
theorem sX6_advance_99 : Rn r 35 99 [some (vR z)] [] h Q ↔ Rn r 35 100 [some (vR z)] [vR z] h Q := Rn_nx pg35 rfl rfl
theorem sX6_advance_100 : Rn r 35 100 [l0] [vR z0] h Q ↔ Rn r 35 101 [l0] [vI 0, vR z0] h Q := Rn_nx pg35 rfl rfl
theorem sX6_advance_101 (hk : hK h a1 = 15) : Rn r 35 101 [l0] [vI x0, vR (some a1)] h Q ↔ Rn r 35 104 [l0] [] (putI h a1 51 x0) Q := Rn_nx pg35 rfl ((if_pos ⟨(hk ▸ Nat.le_refl _), (hk ▸ Nat.le_refl _)⟩).trans rfl)
theorem sX6_advance_104 : Rn r 35 104 [some (vR z)] [] h Q ↔ Rn r 35 105 [some (vR z)] [vR z] h Q := Rn_nx pg35 rfl rfl
theorem sX6_advance_105 (hk : hK h a0 = 15) : Rn r 35 105 [l0] [vR (some a0)] h Q ↔ Rn r 35 108 [l0] [vI (hI h a0 47)] h Q := Rn_nx pg35 rfl (if_pos ⟨(hk ▸ Nat.le_refl _), (hk ▸ Nat.le_refl _)⟩)
theorem sX6_advance_108 : Rn r 35 108 [some (vR z)] [vI x0] h Q ↔ Rn r 35 109 [some (vR z)] [vR z, vI x0] h Q := Rn_nx pg35 rfl rfl
theorem sX6_advance_109 (hk : hK h a0 = 15) : Rn r 35 109 [l0] [vR (some a0), vI x1] h Q ↔ Rn r 35 112 [l0] [vI (hI h a0 48), vI x1] h Q := Rn_nx pg35 rfl (if_pos ⟨(hk ▸ Nat.le_refl _), (hk ▸ Nat.le_refl _)⟩)
theorem sX6_advance_112 : Rn r 35 112 [l0] [vI x0, vI x1] h Q ↔ if x0 ≤ x1 then Rn r 35 165 [l0] [] h Q else Rn r 35 115 [l0] [] h Q := Rn_if pg35 rfl rfl rfl
theorem sX6_advance_115 : Rn r 35 115 [some (vR z)] [] h Q ↔ Rn r 35 116 [some (vR z)] [vR z] h Q := Rn_nx pg35 rfl rfl
theorem sX6_advance_116 (hk : hK h a0 = 15) : Rn r 35 116 [l0] [vR (some a0)] h Q ↔ Rn r 35 119 [l0] [vR (hR h a0 0)] h Q := Rn_nx pg35 rfl (if_pos ⟨(hk ▸ Nat.le_refl _), (hk ▸ Nat.le_refl _)⟩)
theorem sX6_advance_119 : Rn r 35 119 [some (vR z)] [vR z0] h Q ↔ Rn r 35 120 [some (vR z)] [vR z, vR z0] h Q := Rn_nx pg35 rfl rfl
theorem sX6_advance_120 (hk : hK h a0 = 15) : Rn r 35 120 [l0] [vR (some a0), vR z1] h Q ↔ Rn r 35 123 [l0] [vI (hI h a0 47), vR z1] h Q := Rn_nx pg35 rfl (if_pos ⟨(hk ▸ Nat.le_refl _), (hk ▸ Nat.le_refl _)⟩)
theorem sX6_advance_123 (hk : 40 ≤ hK h a1) (hk2 : hK h a1 ≤ 41) (hx : ¬ (x0 < 0 ∨ hL h a1 ≤ x0.toNatClampNeg)) : Rn r 35 123 [l0] [vI x0, vR (some a1)] h Q ↔ Rn r 35 124 [l0] [vI (hI h a1 x0.toNatClampNeg)] h Q := Rn_nx pg35 rfl ((if_pos ⟨hk, hk2⟩).trans (if_neg hx))
theorem sX6_advance_124 : Rn r 35 124 [l0] [vI x0] h Q ↔ Cl r 67 [vI x0] h (Kt r 35 127 [l0] [] Q) := Rn_call pg35 rfl rfl pg67 rfl rfl rfl
theorem sX6_advance_127 : Rn r 35 127 [l0] [vI x0] h Q ↔ if x0 = 0 then Rn r 35 165 [l0] [] h Q else Rn r 35 130 [l0] [] h Q := Rn_if pg35 rfl rfl rfl
theorem sX6_advance_130 : Rn r 35 130 [some (vR z)] [] h Q ↔ Rn r 35 131 [some (vR z)] [vR z] h Q := Rn_nx pg35 rfl rfl
theorem sX6_advance_131 : Rn r 35 131 [some (vR z)] [vR z0] h Q ↔ Rn r 35 132 [some (vR z)] [vR z, vR z0] h Q := Rn_nx pg35 rfl rfl
theorem sX6_advance_132 (hk : hK h a0 = 15) : Rn r 35 132 [l0] [vR (some a0), vR z1] h Q ↔ Rn r 35 135 [l0] [vL (hJ h a0 50), vR z1] h Q := Rn_nx pg35 rfl (if_pos ⟨(hk ▸ Nat.le_refl _), (hk ▸ Nat.le_refl _)⟩)
theorem sX6_advance_135 : Rn r 35 135 [l0] [vL y0, vR z1] h Q ↔ Rn r 35 137 [l0] [vI 8, vL y0, vR z1] h Q := Rn_nx pg35 rfl rfl
theorem sX6_advance_137 : Rn r 35 137 [l0] [vI x0, vL y1, vR z2] h Q ↔ Rn r 35 138 [l0] [vL (y1 <<< (x0.toInt64 &&& 63)), vR z2] h Q := Rn_nx pg35 rfl rfl
theorem sX6_advance_138 : Rn r 35 138 [some (vR z)] [vL y0, vR z1] h Q ↔ Rn r 35 139 [some (vR z)] [vR z, vL y0, vR z1] h Q := Rn_nx pg35 rfl rfl
theorem sX6_advance_139 (hk : hK h a0 = 15) : Rn r 35 139 [l0] [vR (some a0), vL y1, vR z2] h Q ↔ Rn r 35 142 [l0] [vR (hR h a0 0), vL y1, vR z2] h Q := Rn_nx pg35 rfl (if_pos ⟨(hk ▸ Nat.le_refl _), (hk ▸ Nat.le_refl _)⟩)
theorem sX6_advance_142 : Rn r 35 142 [some (vR z)] [vR z0, vL y1, vR z2] h Q ↔ Rn r 35 143 [some (vR z)] [vR z, vR z0, vL y1, vR z2] h Q := Rn_nx pg35 rfl rfl
theorem sX6_advance_143 (hk : hK h a0 = 15) : Rn r 35 143 [l0] [vR (some a0), vR z1, vL y2, vR z3] h Q ↔ Rn r 35 146 [l0] [vI (hI h a0 47), vR z1, vL y2, vR z3] h Q := Rn_nx pg35 rfl (if_pos ⟨(hk ▸ Nat.le_refl _), (hk ▸ Nat.le_refl _)⟩)
theorem sX6_advance_146 (hk : 40 ≤ hK h a1) (hk2 : hK h a1 ≤ 41) (hx : ¬ (x0 < 0 ∨ hL h a1 ≤ x0.toNatClampNeg)) : Rn r 35 146 [l0] [vI x0, vR (some a1), vL y2, vR z3] h Q ↔ Rn r 35 147 [l0] [vI (hI h a1 x0.toNatClampNeg), vL y2, vR z3] h Q := Rn_nx pg35 rfl ((if_pos ⟨hk, hk2⟩).trans (if_neg hx))
theorem sX6_advance_147 : Rn r 35 147 [l0] [vI x0, vL y1, vR z2] h Q ↔ Rn r 35 148 [l0] [vL x0.toInt64, vL y1, vR z2] h Q := Rn_nx pg35 rfl rfl
theorem sX6_advance_148 : Rn r 35 148 [l0] [vL y0, vL y1, vR z2] h Q ↔ Rn r 35 149 [l0] [vL (y1 ||| y0), vR z2] h Q := Rn_nx pg35 rfl rfl
theorem sX6_advance_149 (hk : hK h a1 = 15) : Rn r 35 149 [l0] [vL y0, vR (some a1)] h Q ↔ Rn r 35 152 [l0] [] (putJ h a1 50 y0) Q := Rn_nx pg35 rfl ((if_pos ⟨(hk ▸ Nat.le_refl _), (hk ▸ Nat.le_refl _)⟩).trans rfl)
theorem sX6_advance_152 : Rn r 35 152 [some (vR z)] [] h Q ↔ Rn r 35 153 [some (vR z)] [vR z] h Q := Rn_nx pg35 rfl rfl
theorem sX6_advance_153 : Rn r 35 153 [l0] [vR z0] h Q ↔ Rn r 35 154 [l0] [vR z0, vR z0] h Q := Rn_nx pg35 rfl rfl
theorem sX6_advance_154 (hk : hK h a0 = 15) : Rn r 35 154 [l0] [vR (some a0), vR z1] h Q ↔ Rn r 35 157 [l0] [vI (hI h a0 47), vR z1] h Q := Rn_nx pg35 rfl (if_pos ⟨(hk ▸ Nat.le_refl _), (hk ▸ Nat.le_refl _)⟩)
theorem sX6_advance_157 : Rn r 35 157 [l0] [vI x0, vR z1] h Q ↔ Rn r 35 158 [l0] [vI 1, vI x0, vR z1] h Q := Rn_nx pg35 rfl rfl
theorem sX6_advance_158 : Rn r 35 158 [l0] [vI x0, vI x1, vR z2] h Q ↔ Rn r 35 159 [l0] [vI (x1 + x0), vR z2] h Q := Rn_nx pg35 rfl rfl
theorem sX6_advance_159 (hk : hK h a1 = 15) : Rn r 35 159 [l0] [vI x0, vR (some a1)] h Q ↔ Rn r 35 162 [l0] [] (putI h a1 47 x0) Q := Rn_nx pg35 rfl ((if_pos ⟨(hk ▸ Nat.le_refl _), (hk ▸ Nat.le_refl _)⟩).trans rfl)
theorem sX6_advance_162 : Rn r 35 162 [l0] [] h Q ↔ Rn r 35 104 [l0] [] h Q := Rn_nx pg35 rfl rfl
theorem sX6_advance_165 : Rn r 35 165 [some (vR z)] [] h Q ↔ Rn r 35 166 [some (vR z)] [vR z] h Q := Rn_nx pg35 rfl rfl
theorem sX6_advance_166 (hk : hK h a0 = 15) : Rn r 35 166 [l0] [vR (some a0)] h Q ↔ Rn r 35 169 [l0] [vI (hI h a0 47)] h Q := Rn_nx pg35 rfl (if_pos ⟨(hk ▸ Nat.le_refl _), (hk ▸ Nat.le_refl _)⟩)
theorem sX6_advance_169 : Rn r 35 169 [some (vR z)] [vI x0] h Q ↔ Rn r 35 170 [some (vR z)] [vR z, vI x0] h Q := Rn_nx pg35 rfl rfl
theorem sX6_advance_170 (hk : hK h a0 = 15) : Rn r 35 170 [l0] [vR (some a0), vI x1] h Q ↔ Rn r 35 173 [l0] [vI (hI h a0 49), vI x1] h Q := Rn_nx pg35 rfl (if_pos ⟨(hk ▸ Nat.le_refl _), (hk ▸ Nat.le_refl _)⟩)
theorem sX6_advance_173 : Rn r 35 173 [l0] [vI x0, vI x1] h Q ↔ Rn r 35 174 [l0] [vI (x1 - x0)] h Q := Rn_nx pg35 rfl rfl
theorem sX6_advance_174 : Rn r 35 174 [l0] [vI x0] h Q ↔ Rn r 35 176 [l0] [vI 8, vI x0] h Q := Rn_nx pg35 rfl rfl
theorem sX6_advance_176 : Rn r 35 176 [l0] [vI x0, vI x1] h Q ↔ if x1 ≤ x0 then Rn r 35 236 [l0] [] h Q else Rn r 35 179 [l0] [] h Q := Rn_if pg35 rfl rfl rfl
theorem sX6_advance_179 : Rn r 35 179 [some (vR z)] [] h Q ↔ Rn r 35 180 [some (vR z)] [vR z] h Q := Rn_nx pg35 rfl rfl
theorem sX6_advance_180 : Rn r 35 180 [l0] [vR z0] h Q ↔ Rn r 35 182 [l0] [vI (-2), vR z0] h Q := Rn_nx pg35 rfl rfl
theorem sX6_advance_182 (hk : hK h a1 = 15) : Rn r 35 182 [l0] [vI x0, vR (some a1)] h Q ↔ Rn r 35 185 [l0] [] (putI h a1 51 x0) Q := Rn_nx pg35 rfl ((if_pos ⟨(hk ▸ Nat.le_refl _), (hk ▸ Nat.le_refl _)⟩).trans rfl)
theorem sX6_advance_185 : Rn r 35 185 [some (vR z)] [] h Q ↔ Rn r 35 186 [some (vR z)] [vR z] h Q := Rn_nx pg35 rfl rfl
theorem sX6_advance_186 : Rn r 35 186 [l0] [vR z0] h Q ↔ Rn r 35 187 [l0] [vL 0, vR z0] h Q := Rn_nx pg35 rfl rfl
theorem sX6_advance_187 (hk : hK h a1 = 15) : Rn r 35 187 [l0] [vL y0, vR (some a1)] h Q ↔ Rn r 35 190 [l0] [] (putJ h a1 50 y0) Q := Rn_nx pg35 rfl ((if_pos ⟨(hk ▸ Nat.le_refl _), (hk ▸ Nat.le_refl _)⟩).trans rfl)
theorem sX6_advance_190 : Rn r 35 190 [l0] [] h Q ↔ Rn r 35 236 [l0] [] h Q := Rn_nx pg35 rfl rfl
theorem sX6_advance_193 : Rn r 35 193 [some (vR z)] [] h Q ↔ Rn r 35 194 [some (vR z)] [vR z] h Q := Rn_nx pg35 rfl rfl
theorem sX6_advance_194 : Rn r 35 194 [some (vR z)] [vR z0] h Q ↔ Rn r 35 195 [some (vR z)] [vR z, vR z0] h Q := Rn_nx pg35 rfl rfl
theorem sX6_advance_195 (hk : hK h a0 = 15) : Rn r 35 195 [l0] [vR (some a0), vR z1] h Q ↔ Rn r 35 198 [l0] [vR (hR h a0 0), vR z1] h Q := Rn_nx pg35 rfl (if_pos ⟨(hk ▸ Nat.le_refl _), (hk ▸ Nat.le_refl _)⟩)
theorem sX6_advance_198 : Rn r 35 198 [some (vR z)] [vR z0, vR z1] h Q ↔ Rn r 35 199 [some (vR z)] [vR z, vR z0, vR z1] h Q := Rn_nx pg35 rfl rfl
theorem sX6_advance_199 (hk : hK h a0 = 15) : Rn r 35 199 [l0] [vR (some a0), vR z1, vR z2] h Q ↔ Rn r 35 202 [l0] [vI (hI h a0 47), vR z1, vR z2] h Q := Rn_nx pg35 rfl (if_pos ⟨(hk ▸ Nat.le_refl _), (hk ▸ Nat.le_refl _)⟩)
theorem sX6_advance_202 (hk : 40 ≤ hK h a1) (hk2 : hK h a1 ≤ 41) (hx : ¬ (x0 < 0 ∨ hL h a1 ≤ x0.toNatClampNeg)) : Rn r 35 202 [l0] [vI x0, vR (some a1), vR z2] h Q ↔ Rn r 35 203 [l0] [vI (hI h a1 x0.toNatClampNeg), vR z2] h Q := Rn_nx pg35 rfl ((if_pos ⟨hk, hk2⟩).trans (if_neg hx))
theorem sX6_advance_203 : Rn r 35 203 [l0] [vI x0, vR z1] h Q ↔ Cl r 87 [vI x0] h (Kt r 35 206 [l0] [vR z1] Q) := Rn_call pg35 rfl rfl pg87 rfl rfl rfl
theorem sX6_advance_206 : Rn r 35 206 [l0] [vI x0, vR z1] h Q ↔ if x0 = 0 then Rn r 35 221 [l0] [vR z1] h Q else Rn r 35 209 [l0] [vR z1] h Q := Rn_if pg35 rfl rfl rfl
theorem sX6_advance_209 : Rn r 35 209 [some (vR z)] [vR z0] h Q ↔ Rn r 35 210 [some (vR z)] [vR z, vR z0] h Q := Rn_nx pg35 rfl rfl
theorem sX6_advance_210 (hk : hK h a0 = 15) : Rn r 35 210 [l0] [vR (some a0), vR z1] h Q ↔ Rn r 35 213 [l0] [vR (hR h a0 0), vR z1] h Q := Rn_nx pg35 rfl (if_pos ⟨(hk ▸ Nat.le_refl _), (hk ▸ Nat.le_refl _)⟩)
theorem sX6_advance_213 : Rn r 35 213 [some (vR z)] [vR z0, vR z1] h Q ↔ Rn r 35 214 [some (vR z)] [vR z, vR z0, vR z1] h Q := Rn_nx pg35 rfl rfl
theorem sX6_advance_214 (hk : hK h a0 = 15) : Rn r 35 214 [l0] [vR (some a0), vR z1, vR z2] h Q ↔ Rn r 35 217 [l0] [vI (hI h a0 47), vR z1, vR z2] h Q := Rn_nx pg35 rfl (if_pos ⟨(hk ▸ Nat.le_refl _), (hk ▸ Nat.le_refl _)⟩)
theorem sX6_advance_217 (hk : 40 ≤ hK h a1) (hk2 : hK h a1 ≤ 41) (hx : ¬ (x0 < 0 ∨ hL h a1 ≤ x0.toNatClampNeg)) : Rn r 35 217 [l0] [vI x0, vR (some a1), vR z2] h Q ↔ Rn r 35 218 [l0] [vI (hI h a1 x0.toNatClampNeg), vR z2] h Q := Rn_nx pg35 rfl ((if_pos ⟨hk, hk2⟩).trans (if_neg hx))
theorem sX6_advance_218 : Rn r 35 218 [l0] [vI x0, vR z1] h Q ↔ Rn r 35 223 [l0] [vI x0, vR z1] h Q := Rn_nx pg35 rfl rfl
theorem sX6_advance_221 : Rn r 35 221 [l0] [vR z0] h Q ↔ Rn r 35 223 [l0] [vI (-2), vR z0] h Q := Rn_nx pg35 rfl rfl
theorem sX6_advance_223 (hk : hK h a1 = 15) : Rn r 35 223 [l0] [vI x0, vR (some a1)] h Q ↔ Rn r 35 226 [l0] [] (putI h a1 51 x0) Q := Rn_nx pg35 rfl ((if_pos ⟨(hk ▸ Nat.le_refl _), (hk ▸ Nat.le_refl _)⟩).trans rfl)
theorem sX6_advance_226 : Rn r 35 226 [some (vR z)] [] h Q ↔ Rn r 35 227 [some (vR z)] [vR z] h Q := Rn_nx pg35 rfl rfl
theorem sX6_advance_227 : Rn r 35 227 [l0] [vR z0] h Q ↔ Rn r 35 228 [l0] [vR z0, vR z0] h Q := Rn_nx pg35 rfl rfl
theorem sX6_advance_228 (hk : hK h a0 = 15) : Rn r 35 228 [l0] [vR (some a0), vR z1] h Q ↔ Rn r 35 231 [l0] [vI (hI h a0 47), vR z1] h Q := Rn_nx pg35 rfl (if_pos ⟨(hk ▸ Nat.le_refl _), (hk ▸ Nat.le_refl _)⟩)
theorem sX6_advance_231 : Rn r 35 231 [l0] [vI x0, vR z1] h Q ↔ Rn r 35 232 [l0] [vI 1, vI x0, vR z1] h Q := Rn_nx pg35 rfl rfl
theorem sX6_advance_232 : Rn r 35 232 [l0] [vI x0, vI x1, vR z2] h Q ↔ Rn r 35 233 [l0] [vI (x1 + x0), vR z2] h Q := Rn_nx pg35 rfl rfl
theorem sX6_advance_233 (hk : hK h a1 = 15) : Rn r 35 233 [l0] [vI x0, vR (some a1)] h Q ↔ Rn r 35 236 [l0] [] (putI h a1 47 x0) Q := Rn_nx pg35 rfl ((if_pos ⟨(hk ▸ Nat.le_refl _), (hk ▸ Nat.le_refl _)⟩).trans rfl)
theorem sX6_advance_236 : Rn r 35 236 [l0] [] h Q ↔ Q (Sum.inl none) h := Rn_end pg35 rfl rfl
/-! 36 ThrowRulesModel.isWord(J)Z -/
theorem eX6_isWord : Cl r 36 [vR z0, vL y1] h Q ↔ Rn r 36 0 [some (vR z0), some (vL y1), none] [] h Q := Cl_in pg36 rfl
theorem sX6_isWord_0 : Rn r 36 0 [some (vR z), l1, l2] [] h Q ↔ Rn r 36 1 [some (vR z), l1, l2] [vR z] h Q := Rn_nx pg36 rfl rfl
theorem sX6_isWord_1 (hk : hK h a0 = 15) : Rn r 36 1 [l0, l1, l2] [vR (some a0)] h Q ↔ Rn r 36 4 [l0, l1, l2] [vL (hJ h a0 50)] h Q := Rn_nx pg36 rfl (if_pos ⟨(hk ▸ Nat.le_refl _), (hk ▸ Nat.le_refl _)⟩)
theorem sX6_isWord_4 : Rn r 36 4 [l0, some (vL y), l2] [vL y0] h Q ↔ Rn r 36 5 [l0, some (vL y), l2] [vL y, vL y0] h Q := Rn_nx pg36 rfl rfl
theorem sX6_isWord_5 : Rn r 36 5 [l0, l1, l2] [vL y0, vL y1] h Q ↔ Rn r 36 6 [l0, l1, l2] [vI (lg_cmp y1 y0)] h Q := Rn_nx pg36 rfl rfl
theorem sX6_isWord_6 : Rn r 36 6 [l0, l1, l2] [vI x0] h Q ↔ if x0 ≠ 0 then Rn r 36 13 [l0, l1, l2] [] h Q else Rn r 36 9 [l0, l1, l2] [] h Q := Rn_if pg36 rfl rfl rfl
theorem sX6_isWord_9 : Rn r 36 9 [l0, l1, l2] [] h Q ↔ Rn r 36 10 [l0, l1, l2] [vI 1] h Q := Rn_nx pg36 rfl rfl
theorem sX6_isWord_10 : Rn r 36 10 [l0, l1, l2] [vI x0] h Q ↔ Rn r 36 14 [l0, l1, l2] [vI x0] h Q := Rn_nx pg36 rfl rfl
theorem sX6_isWord_13 : Rn r 36 13 [l0, l1, l2] [] h Q ↔ Rn r 36 14 [l0, l1, l2] [vI 0] h Q := Rn_nx pg36 rfl rfl
theorem sX6_isWord_14 (hf : am_fit 4 x0 = true) : Rn r 36 14 [l0, l1, l2] [vI x0] h Q ↔ Q (Sum.inl (some (vI x0))) h := Rn_end pg36 rfl (if_pos hf)
/-! 37 ThrowRulesModel.readKind()V -/
theorem eX6_readKind : Cl r 37 [vR z0] h Q ↔ Rn r 37 0 [some (vR z0), none] [] h Q := Cl_in pg37 rfl
theorem sX6_readKind_0 : Rn r 37 0 [some (vR z), l1] [] h Q ↔ Rn r 37 1 [some (vR z), l1] [vR z] h Q := Rn_nx pg37 rfl rfl
theorem sX6_readKind_1 (hk : hK h a0 = 15) : Rn r 37 1 [l0, l1] [vR (some a0)] h Q ↔ Rn r 37 4 [l0, l1] [vI (hI h a0 2)] h Q := Rn_nx pg37 rfl (if_pos ⟨(hk ▸ Nat.le_refl _), (hk ▸ Nat.le_refl _)⟩)
theorem sX6_readKind_4 : Rn r 37 4 [l0, l1] [vI x0] h Q ↔ Rn r 37 6 [l0, l1] [vI 16, vI x0] h Q := Rn_nx pg37 rfl rfl
theorem sX6_readKind_6 : Rn r 37 6 [l0, l1] [vI x0, vI x1] h Q ↔ Rn r 37 7 [l0, l1] [vI (x1 * x0)] h Q := Rn_nx pg37 rfl rfl
theorem sX6_readKind_7 : Rn r 37 7 [some (vR z), l1] [vI x0] h Q ↔ Rn r 37 8 [some (vR z), l1] [vR z, vI x0] h Q := Rn_nx pg37 rfl rfl
theorem sX6_readKind_8 (hk : hK h a0 = 15) : Rn r 37 8 [l0, l1] [vR (some a0), vI x1] h Q ↔ Rn r 37 11 [l0, l1] [vR (hR h a0 3), vI x1] h Q := Rn_nx pg37 rfl (if_pos ⟨(hk ▸ Nat.le_refl _), (hk ▸ Nat.le_refl _)⟩)
theorem sX6_readKind_11 : Rn r 37 11 [some (vR z), l1] [vR z0, vI x1] h Q ↔ Rn r 37 12 [some (vR z), l1] [vR z, vR z0, vI x1] h Q := Rn_nx pg37 rfl rfl
theorem sX6_readKind_12 (hk : hK h a0 = 15) : Rn r 37 12 [l0, l1] [vR (some a0), vR z1, vI x2] h Q ↔ Rn r 37 15 [l0, l1] [vI (hI h a0 2), vR z1, vI x2] h Q := Rn_nx pg37 rfl (if_pos ⟨(hk ▸ Nat.le_refl _), (hk ▸ Nat.le_refl _)⟩)
theorem sX6_readKind_15 (hk : 40 ≤ hK h a1) (hk2 : hK h a1 ≤ 41) (hx : ¬ (x0 < 0 ∨ hL h a1 ≤ x0.toNatClampNeg)) : Rn r 37 15 [l0, l1] [vI x0, vR (some a1), vI x2] h Q ↔ Rn r 37 16 [l0, l1] [vI (hI h a1 x0.toNatClampNeg), vI x2] h Q := Rn_nx pg37 rfl ((if_pos ⟨hk, hk2⟩).trans (if_neg hx))
theorem sX6_readKind_16 : Rn r 37 16 [l0, l1] [vI x0, vI x1] h Q ↔ Rn r 37 17 [l0, l1] [vI (x1 + x0)] h Q := Rn_nx pg37 rfl rfl
theorem sX6_readKind_17 : Rn r 37 17 [l0, l1] [vI x0] h Q ↔ Rn r 37 18 [l0, some (vI x0)] [] h Q := Rn_nx pg37 rfl rfl
theorem sX6_readKind_18 : Rn r 37 18 [some (vR z), l1] [] h Q ↔ Rn r 37 19 [some (vR z), l1] [vR z] h Q := Rn_nx pg37 rfl rfl
theorem sX6_readKind_19 (hk : hK h a0 = 15) : Rn r 37 19 [l0, l1] [vR (some a0)] h Q ↔ Rn r 37 22 [l0, l1] [vR (hR h a0 3)] h Q := Rn_nx pg37 rfl (if_pos ⟨(hk ▸ Nat.le_refl _), (hk ▸ Nat.le_refl _)⟩)
theorem sX6_readKind_22 : Rn r 37 22 [some (vR z), l1] [vR z0] h Q ↔ Rn r 37 23 [some (vR z), l1] [vR z, vR z0] h Q := Rn_nx pg37 rfl rfl
theorem sX6_readKind_23 (hk : hK h a0 = 15) : Rn r 37 23 [l0, l1] [vR (some a0), vR z1] h Q ↔ Rn r 37 26 [l0, l1] [vI (hI h a0 2), vR z1] h Q := Rn_nx pg37 rfl (if_pos ⟨(hk ▸ Nat.le_refl _), (hk ▸ Nat.le_refl _)⟩)
theorem sX6_readKind_26 (hk : 40 ≤ hK h a1) (hk2 : hK h a1 ≤ 41) (hx : ¬ (x0 < 0 ∨ hL h a1 ≤ x0.toNatClampNeg)) : Rn r 37 26 [l0, l1] [vI x0, vR (some a1)] h Q ↔ Rn r 37 27 [l0, l1] [vI (hI h a1 x0.toNatClampNeg)] h Q := Rn_nx pg37 rfl ((if_pos ⟨hk, hk2⟩).trans (if_neg hx))
theorem sX6_readKind_27 : Rn r 37 27 [l0, l1] [vI x0] h Q ↔ Rn r 37 29 [l0, l1] [vI 16, vI x0] h Q := Rn_nx pg37 rfl rfl
theorem sX6_readKind_29 : Rn r 37 29 [l0, l1] [vI x0, vI x1] h Q ↔ if x1 ≠ x0 then Rn r 37 38 [l0, l1] [] h Q else Rn r 37 32 [l0, l1] [] h Q := Rn_if pg37 rfl rfl rfl
theorem sX6_readKind_32 : Rn r 37 32 [some (vR z), l1] [] h Q ↔ Rn r 37 33 [some (vR z), l1] [vR z] h Q := Rn_nx pg37 rfl rfl
theorem sX6_readKind_33 (hk : hK h a0 = 15) : Rn r 37 33 [l0, l1] [vR (some a0)] h Q ↔ Cl r 39 [vR (some a0)] h (Kt r 37 36 [l0, l1] [] Q) := Rn_call pg37 rfl (by simp only [am_exec, am_inv, am_pop, am_lk, hk]; rfl) pg39 rfl rfl rfl
theorem sX6_readKind_36 : Rn r 37 36 [l0, l1] [vI x0] h Q ↔ Rn r 37 37 [l0, l1] [] h Q := Rn_nx pg37 rfl rfl
theorem sX6_readKind_37 : Rn r 37 37 [l0, l1] [] h Q ↔ Q (Sum.inl none) h := Rn_end pg37 rfl rfl
theorem sX6_readKind_38 : Rn r 37 38 [some (vR z), l1] [] h Q ↔ Rn r 37 39 [some (vR z), l1] [vR z] h Q := Rn_nx pg37 rfl rfl
theorem sX6_readKind_39 (hk : hK h a0 = 15) : Rn r 37 39 [l0, l1] [vR (some a0)] h Q ↔ Cl r 35 [vR (some a0)] h (Kt r 37 42 [l0, l1] [] Q) := Rn_call pg37 rfl (by simp only [am_exec, am_inv, am_pop, am_lk, hk]; rfl) pg35 rfl rfl rfl
theorem sX6_readKind_42 : Rn r 37 42 [some (vR z), l1] [] h Q ↔ Rn r 37 43 [some (vR z), l1] [vR z] h Q := Rn_nx pg37 rfl rfl
theorem sX6_readKind_43 (hk : hK h a0 = 15) : Rn r 37 43 [l0, l1] [vR (some a0)] h Q ↔ Cl r 88 [vR (some a0)] h (Kt r 37 46 [l0, l1] [] Q) := Rn_call pg37 rfl (by simp only [am_exec, am_inv, am_pop, am_lk, hk]; rfl) pg88 rfl rfl rfl
theorem sX6_readKind_46 : Rn r 37 46 [l0, l1] [vI x0] h Q ↔ if x0 ≠ 0 then Rn r 37 50 [l0, l1] [] h Q else Rn r 37 49 [l0, l1] [] h Q := Rn_if pg37 rfl rfl rfl
theorem sX6_readKind_49 : Rn r 37 49 [l0, l1] [] h Q ↔ Q (Sum.inl none) h := Rn_end pg37 rfl rfl
theorem sX6_readKind_50 : Rn r 37 50 [some (vR z), l1] [] h Q ↔ Rn r 37 51 [some (vR z), l1] [vR z] h Q := Rn_nx pg37 rfl rfl
theorem sX6_readKind_51 (hk : hK h a0 = 15) : Rn r 37 51 [l0, l1] [vR (some a0)] h Q ↔ Rn r 37 54 [l0, l1] [vR (hR h a0 4)] h Q := Rn_nx pg37 rfl (if_pos ⟨(hk ▸ Nat.le_refl _), (hk ▸ Nat.le_refl _)⟩)
theorem sX6_readKind_54 : Rn r 37 54 [l0, some (vI x)] [vR z0] h Q ↔ Rn r 37 55 [l0, some (vI x)] [vI x, vR z0] h Q := Rn_nx pg37 rfl rfl
theorem sX6_readKind_55 : Rn r 37 55 [some (vR z), l1] [vI x0, vR z1] h Q ↔ Rn r 37 56 [some (vR z), l1] [vR z, vI x0, vR z1] h Q := Rn_nx pg37 rfl rfl
theorem sX6_readKind_56 (hk : hK h a0 = 15) : Rn r 37 56 [l0, l1] [vR (some a0), vI x1, vR z2] h Q ↔ Rn r 37 59 [l0, l1] [vL (hJ h a0 53), vI x1, vR z2] h Q := Rn_nx pg37 rfl (if_pos ⟨(hk ▸ Nat.le_refl _), (hk ▸ Nat.le_refl _)⟩)
theorem sX6_readKind_59 (hk : hK h a2 = 42) (hx : ¬ (x1 < 0 ∨ hL h a2 ≤ x1.toNatClampNeg)) : Rn r 37 59 [l0, l1] [vL y0, vI x1, vR (some a2)] h Q ↔ Rn r 37 60 [l0, l1] [] (putJ h a2 x1.toNatClampNeg y0) Q := Rn_nx pg37 rfl ((if_pos hk).trans (if_neg hx))
theorem sX6_readKind_60 : Rn r 37 60 [some (vR z), l1] [] h Q ↔ Rn r 37 61 [some (vR z), l1] [vR z] h Q := Rn_nx pg37 rfl rfl
theorem sX6_readKind_61 (hk : hK h a0 = 15) : Rn r 37 61 [l0, l1] [vR (some a0)] h Q ↔ Rn r 37 64 [l0, l1] [vR (hR h a0 5)] h Q := Rn_nx pg37 rfl (if_pos ⟨(hk ▸ Nat.le_refl _), (hk ▸ Nat.le_refl _)⟩)
theorem sX6_readKind_64 : Rn r 37 64 [l0, some (vI x)] [vR z0] h Q ↔ Rn r 37 65 [l0, some (vI x)] [vI x, vR z0] h Q := Rn_nx pg37 rfl rfl
theorem sX6_readKind_65 : Rn r 37 65 [some (vR z), l1] [vI x0, vR z1] h Q ↔ Rn r 37 66 [some (vR z), l1] [vR z, vI x0, vR z1] h Q := Rn_nx pg37 rfl rfl
theorem sX6_readKind_66 (hk : hK h a0 = 15) : Rn r 37 66 [l0, l1] [vR (some a0), vI x1, vR z2] h Q ↔ Rn r 37 69 [l0, l1] [vI (hI h a0 54), vI x1, vR z2] h Q := Rn_nx pg37 rfl (if_pos ⟨(hk ▸ Nat.le_refl _), (hk ▸ Nat.le_refl _)⟩)
theorem sX6_readKind_69 (hk : hK h a2 = 40) (hx : ¬ (x1 < 0 ∨ hL h a2 ≤ x1.toNatClampNeg)) : Rn r 37 69 [l0, l1] [vI x0, vI x1, vR (some a2)] h Q ↔ Rn r 37 70 [l0, l1] [] (putI h a2 x1.toNatClampNeg x0) Q := Rn_nx pg37 rfl ((if_pos hk).trans (if_neg hx))
theorem sX6_readKind_70 : Rn r 37 70 [some (vR z), l1] [] h Q ↔ Rn r 37 71 [some (vR z), l1] [vR z] h Q := Rn_nx pg37 rfl rfl
theorem sX6_readKind_71 : Rn r 37 71 [l0, l1] [vR z0] h Q ↔ Rn r 37 74 [l0, l1] [vL 422608400247, vR z0] h Q := Rn_nx pg37 rfl rfl
theorem sX6_readKind_74 (hk : hK h a1 = 15) : Rn r 37 74 [l0, l1] [vL y0, vR (some a1)] h Q ↔ Cl r 89 [vR (some a1), vL y0] h (Kt r 37 77 [l0, l1] [] Q) := Rn_call pg37 rfl (by simp only [am_exec, am_inv, am_pop, am_lk, hk]; rfl) pg89 rfl rfl rfl
theorem sX6_readKind_77 : Rn r 37 77 [l0, l1] [vI x0] h Q ↔ if x0 = 0 then Rn r 37 87 [l0, l1] [] h Q else Rn r 37 80 [l0, l1] [] h Q := Rn_if pg37 rfl rfl rfl
theorem sX6_readKind_80 : Rn r 37 80 [some (vR z), l1] [] h Q ↔ Rn r 37 81 [some (vR z), l1] [vR z] h Q := Rn_nx pg37 rfl rfl
theorem sX6_readKind_81 (hk : hK h a0 = 15) : Rn r 37 81 [l0, l1] [vR (some a0)] h Q ↔ Cl r 88 [vR (some a0)] h (Kt r 37 84 [l0, l1] [] Q) := Rn_call pg37 rfl (by simp only [am_exec, am_inv, am_pop, am_lk, hk]; rfl) pg88 rfl rfl rfl
theorem sX6_readKind_84 : Rn r 37 84 [l0, l1] [vI x0] h Q ↔ if x0 ≠ 0 then Rn r 37 88 [l0, l1] [] h Q else Rn r 37 87 [l0, l1] [] h Q := Rn_if pg37 rfl rfl rfl
theorem sX6_readKind_87 : Rn r 37 87 [l0, l1] [] h Q ↔ Q (Sum.inl none) h := Rn_end pg37 rfl rfl
theorem sX6_readKind_88 : Rn r 37 88 [some (vR z), l1] [] h Q ↔ Rn r 37 89 [some (vR z), l1] [vR z] h Q := Rn_nx pg37 rfl rfl
theorem sX6_readKind_89 (hk : hK h a0 = 15) : Rn r 37 89 [l0, l1] [vR (some a0)] h Q ↔ Rn r 37 92 [l0, l1] [vR (hR h a0 7)] h Q := Rn_nx pg37 rfl (if_pos ⟨(hk ▸ Nat.le_refl _), (hk ▸ Nat.le_refl _)⟩)
theorem sX6_readKind_92 : Rn r 37 92 [l0, some (vI x)] [vR z0] h Q ↔ Rn r 37 93 [l0, some (vI x)] [vI x, vR z0] h Q := Rn_nx pg37 rfl rfl
theorem sX6_readKind_93 : Rn r 37 93 [some (vR z), l1] [vI x0, vR z1] h Q ↔ Rn r 37 94 [some (vR z), l1] [vR z, vI x0, vR z1] h Q := Rn_nx pg37 rfl rfl
theorem sX6_readKind_94 (hk : hK h a0 = 15) : Rn r 37 94 [l0, l1] [vR (some a0), vI x1, vR z2] h Q ↔ Rn r 37 97 [l0, l1] [vL (hJ h a0 53), vI x1, vR z2] h Q := Rn_nx pg37 rfl (if_pos ⟨(hk ▸ Nat.le_refl _), (hk ▸ Nat.le_refl _)⟩)
theorem sX6_readKind_97 (hk : hK h a2 = 42) (hx : ¬ (x1 < 0 ∨ hL h a2 ≤ x1.toNatClampNeg)) : Rn r 37 97 [l0, l1] [vL y0, vI x1, vR (some a2)] h Q ↔ Rn r 37 98 [l0, l1] [] (putJ h a2 x1.toNatClampNeg y0) Q := Rn_nx pg37 rfl ((if_pos hk).trans (if_neg hx))
theorem sX6_readKind_98 : Rn r 37 98 [some (vR z), l1] [] h Q ↔ Rn r 37 99 [some (vR z), l1] [vR z] h Q := Rn_nx pg37 rfl rfl
theorem sX6_readKind_99 (hk : hK h a0 = 15) : Rn r 37 99 [l0, l1] [vR (some a0)] h Q ↔ Rn r 37 102 [l0, l1] [vR (hR h a0 8)] h Q := Rn_nx pg37 rfl (if_pos ⟨(hk ▸ Nat.le_refl _), (hk ▸ Nat.le_refl _)⟩)
theorem sX6_readKind_102 : Rn r 37 102 [l0, some (vI x)] [vR z0] h Q ↔ Rn r 37 103 [l0, some (vI x)] [vI x, vR z0] h Q := Rn_nx pg37 rfl rfl
theorem sX6_readKind_103 : Rn r 37 103 [some (vR z), l1] [vI x0, vR z1] h Q ↔ Rn r 37 104 [some (vR z), l1] [vR z, vI x0, vR z1] h Q := Rn_nx pg37 rfl rfl
theorem sX6_readKind_104 (hk : hK h a0 = 15) : Rn r 37 104 [l0, l1] [vR (some a0), vI x1, vR z2] h Q ↔ Rn r 37 107 [l0, l1] [vI (hI h a0 54), vI x1, vR z2] h Q := Rn_nx pg37 rfl (if_pos ⟨(hk ▸ Nat.le_refl _), (hk ▸ Nat.le_refl _)⟩)
theorem sX6_readKind_107 (hk : hK h a2 = 40) (hx : ¬ (x1 < 0 ∨ hL h a2 ≤ x1.toNatClampNeg)) : Rn r 37 107 [l0, l1] [vI x0, vI x1, vR (some a2)] h Q ↔ Rn r 37 108 [l0, l1] [] (putI h a2 x1.toNatClampNeg x0) Q := Rn_nx pg37 rfl ((if_pos hk).trans (if_neg hx))
theorem sX6_readKind_108 : Rn r 37 108 [some (vR z), l1] [] h Q ↔ Rn r 37 109 [some (vR z), l1] [vR z] h Q := Rn_nx pg37 rfl rfl
theorem sX6_readKind_109 (hk : hK h a0 = 15) : Rn r 37 109 [l0, l1] [vR (some a0)] h Q ↔ Rn r 37 112 [l0, l1] [vR (hR h a0 6)] h Q := Rn_nx pg37 rfl (if_pos ⟨(hk ▸ Nat.le_refl _), (hk ▸ Nat.le_refl _)⟩)
theorem sX6_readKind_112 : Rn r 37 112 [l0, some (vI x)] [vR z0] h Q ↔ Rn r 37 113 [l0, some (vI x)] [vI x, vR z0] h Q := Rn_nx pg37 rfl rfl
theorem sX6_readKind_113 : Rn r 37 113 [some (vR z), l1] [vI x0, vR z1] h Q ↔ Rn r 37 114 [some (vR z), l1] [vR z, vI x0, vR z1] h Q := Rn_nx pg37 rfl rfl
theorem sX6_readKind_114 (hk : hK h a0 = 15) : Rn r 37 114 [l0, l1] [vR (some a0), vI x1, vR z2] h Q ↔ Rn r 37 117 [l0, l1] [vI (hI h a0 49), vI x1, vR z2] h Q := Rn_nx pg37 rfl (if_pos ⟨(hk ▸ Nat.le_refl _), (hk ▸ Nat.le_refl _)⟩)
theorem sX6_readKind_117 (hk : hK h a2 = 40) (hx : ¬ (x1 < 0 ∨ hL h a2 ≤ x1.toNatClampNeg)) : Rn r 37 117 [l0, l1] [vI x0, vI x1, vR (some a2)] h Q ↔ Rn r 37 118 [l0, l1] [] (putI h a2 x1.toNatClampNeg x0) Q := Rn_nx pg37 rfl ((if_pos hk).trans (if_neg hx))
theorem sX6_readKind_118 : Rn r 37 118 [some (vR z), l1] [] h Q ↔ Rn r 37 119 [some (vR z), l1] [vR z] h Q := Rn_nx pg37 rfl rfl
theorem sX6_readKind_119 : Rn r 37 119 [l0, l1] [vR z0] h Q ↔ Rn r 37 121 [l0, l1] [vI 59, vR z0] h Q := Rn_nx pg37 rfl rfl
theorem sX6_readKind_121 (hk : hK h a1 = 15) : Rn r 37 121 [l0, l1] [vI x0, vR (some a1)] h Q ↔ Cl r 90 [vR (some a1), vI x0] h (Kt r 37 124 [l0, l1] [] Q) := Rn_call pg37 rfl (by simp only [am_exec, am_inv, am_pop, am_lk, hk]; rfl) pg90 rfl rfl rfl
theorem sX6_readKind_124 : Rn r 37 124 [l0, l1] [vI x0] h Q ↔ if x0 = 0 then Rn r 37 140 [l0, l1] [] h Q else Rn r 37 127 [l0, l1] [] h Q := Rn_if pg37 rfl rfl rfl
theorem sX6_readKind_127 : Rn r 37 127 [some (vR z), l1] [] h Q ↔ Rn r 37 128 [some (vR z), l1] [vR z] h Q := Rn_nx pg37 rfl rfl
theorem sX6_readKind_128 (hk : hK h a0 = 15) : Rn r 37 128 [l0, l1] [vR (some a0)] h Q ↔ Rn r 37 131 [l0, l1] [vR (hR h a0 3)] h Q := Rn_nx pg37 rfl (if_pos ⟨(hk ▸ Nat.le_refl _), (hk ▸ Nat.le_refl _)⟩)
theorem sX6_readKind_131 : Rn r 37 131 [some (vR z), l1] [vR z0] h Q ↔ Rn r 37 132 [some (vR z), l1] [vR z, vR z0] h Q := Rn_nx pg37 rfl rfl
theorem sX6_readKind_132 (hk : hK h a0 = 15) : Rn r 37 132 [l0, l1] [vR (some a0), vR z1] h Q ↔ Rn r 37 135 [l0, l1] [vI (hI h a0 2), vR z1] h Q := Rn_nx pg37 rfl (if_pos ⟨(hk ▸ Nat.le_refl _), (hk ▸ Nat.le_refl _)⟩)
theorem sX6_readKind_135 : Rn r 37 135 [l0, l1] [vI x0, vR z1] h Q ↔ Rn r 37 136 [l0, l1] [vI x0, vR z1, vI x0, vR z1] h Q := Rn_nx pg37 rfl rfl
theorem sX6_readKind_136 (hk : 40 ≤ hK h a1) (hk2 : hK h a1 ≤ 41) (hx : ¬ (x0 < 0 ∨ hL h a1 ≤ x0.toNatClampNeg)) : Rn r 37 136 [l0, l1] [vI x0, vR (some a1), vI x2, vR z3] h Q ↔ Rn r 37 137 [l0, l1] [vI (hI h a1 x0.toNatClampNeg), vI x2, vR z3] h Q := Rn_nx pg37 rfl ((if_pos ⟨hk, hk2⟩).trans (if_neg hx))
theorem sX6_readKind_137 : Rn r 37 137 [l0, l1] [vI x0, vI x1, vR z2] h Q ↔ Rn r 37 138 [l0, l1] [vI 1, vI x0, vI x1, vR z2] h Q := Rn_nx pg37 rfl rfl
theorem sX6_readKind_138 : Rn r 37 138 [l0, l1] [vI x0, vI x1, vI x2, vR z3] h Q ↔ Rn r 37 139 [l0, l1] [vI (x1 + x0), vI x2, vR z3] h Q := Rn_nx pg37 rfl rfl
theorem sX6_readKind_139 (hk : hK h a2 = 40) (hx : ¬ (x1 < 0 ∨ hL h a2 ≤ x1.toNatClampNeg)) : Rn r 37 139 [l0, l1] [vI x0, vI x1, vR (some a2)] h Q ↔ Rn r 37 140 [l0, l1] [] (putI h a2 x1.toNatClampNeg x0) Q := Rn_nx pg37 rfl ((if_pos hk).trans (if_neg hx))
theorem sX6_readKind_140 : Rn r 37 140 [l0, l1] [] h Q ↔ Q (Sum.inl none) h := Rn_end pg37 rfl rfl
/-! 38 ThrowRulesModel.readMethod()V -/
theorem eX6_readMethod : Cl r 38 [vR z0] h Q ↔ Rn r 38 0 [some (vR z0), none, none] [] h Q := Cl_in pg38 rfl
theorem sX6_readMethod_0 : Rn r 38 0 [some (vR z), l1, l2] [] h Q ↔ Rn r 38 1 [some (vR z), l1, l2] [vR z] h Q := Rn_nx pg38 rfl rfl
theorem sX6_readMethod_1 (hk : hK h a0 = 15) : Rn r 38 1 [l0, l1, l2] [vR (some a0)] h Q ↔ Rn r 38 4 [l0, l1, l2] [vI (hI h a0 2)] h Q := Rn_nx pg38 rfl (if_pos ⟨(hk ▸ Nat.le_refl _), (hk ▸ Nat.le_refl _)⟩)
theorem sX6_readMethod_4 : Rn r 38 4 [l0, l1, l2] [vI x0] h Q ↔ Rn r 38 6 [l0, l1, l2] [vI 12, vI x0] h Q := Rn_nx pg38 rfl rfl
theorem sX6_readMethod_6 : Rn r 38 6 [l0, l1, l2] [vI x0, vI x1] h Q ↔ Rn r 38 7 [l0, l1, l2] [vI (x1 * x0)] h Q := Rn_nx pg38 rfl rfl
theorem sX6_readMethod_7 : Rn r 38 7 [some (vR z), l1, l2] [vI x0] h Q ↔ Rn r 38 8 [some (vR z), l1, l2] [vR z, vI x0] h Q := Rn_nx pg38 rfl rfl
theorem sX6_readMethod_8 (hk : hK h a0 = 15) : Rn r 38 8 [l0, l1, l2] [vR (some a0), vI x1] h Q ↔ Rn r 38 11 [l0, l1, l2] [vR (hR h a0 9), vI x1] h Q := Rn_nx pg38 rfl (if_pos ⟨(hk ▸ Nat.le_refl _), (hk ▸ Nat.le_refl _)⟩)
theorem sX6_readMethod_11 : Rn r 38 11 [some (vR z), l1, l2] [vR z0, vI x1] h Q ↔ Rn r 38 12 [some (vR z), l1, l2] [vR z, vR z0, vI x1] h Q := Rn_nx pg38 rfl rfl
theorem sX6_readMethod_12 (hk : hK h a0 = 15) : Rn r 38 12 [l0, l1, l2] [vR (some a0), vR z1, vI x2] h Q ↔ Rn r 38 15 [l0, l1, l2] [vI (hI h a0 2), vR z1, vI x2] h Q := Rn_nx pg38 rfl (if_pos ⟨(hk ▸ Nat.le_refl _), (hk ▸ Nat.le_refl _)⟩)
theorem sX6_readMethod_15 (hk : 40 ≤ hK h a1) (hk2 : hK h a1 ≤ 41) (hx : ¬ (x0 < 0 ∨ hL h a1 ≤ x0.toNatClampNeg)) : Rn r 38 15 [l0, l1, l2] [vI x0, vR (some a1), vI x2] h Q ↔ Rn r 38 16 [l0, l1, l2] [vI (hI h a1 x0.toNatClampNeg), vI x2] h Q := Rn_nx pg38 rfl ((if_pos ⟨hk, hk2⟩).trans (if_neg hx))
theorem sX6_readMethod_16 : Rn r 38 16 [l0, l1, l2] [vI x0, vI x1] h Q ↔ Rn r 38 17 [l0, l1, l2] [vI (x1 + x0)] h Q := Rn_nx pg38 rfl rfl
theorem sX6_readMethod_17 : Rn r 38 17 [l0, l1, l2] [vI x0] h Q ↔ Rn r 38 18 [l0, some (vI x0), l2] [] h Q := Rn_nx pg38 rfl rfl
theorem sX6_readMethod_18 : Rn r 38 18 [some (vR z), l1, l2] [] h Q ↔ Rn r 38 19 [some (vR z), l1, l2] [vR z] h Q := Rn_nx pg38 rfl rfl
theorem sX6_readMethod_19 (hk : hK h a0 = 15) : Rn r 38 19 [l0, l1, l2] [vR (some a0)] h Q ↔ Rn r 38 22 [l0, l1, l2] [vR (hR h a0 9)] h Q := Rn_nx pg38 rfl (if_pos ⟨(hk ▸ Nat.le_refl _), (hk ▸ Nat.le_refl _)⟩)
theorem sX6_readMethod_22 : Rn r 38 22 [some (vR z), l1, l2] [vR z0] h Q ↔ Rn r 38 23 [some (vR z), l1, l2] [vR z, vR z0] h Q := Rn_nx pg38 rfl rfl
theorem sX6_readMethod_23 (hk : hK h a0 = 15) : Rn r 38 23 [l0, l1, l2] [vR (some a0), vR z1] h Q ↔ Rn r 38 26 [l0, l1, l2] [vI (hI h a0 2), vR z1] h Q := Rn_nx pg38 rfl (if_pos ⟨(hk ▸ Nat.le_refl _), (hk ▸ Nat.le_refl _)⟩)
theorem sX6_readMethod_26 (hk : 40 ≤ hK h a1) (hk2 : hK h a1 ≤ 41) (hx : ¬ (x0 < 0 ∨ hL h a1 ≤ x0.toNatClampNeg)) : Rn r 38 26 [l0, l1, l2] [vI x0, vR (some a1)] h Q ↔ Rn r 38 27 [l0, l1, l2] [vI (hI h a1 x0.toNatClampNeg)] h Q := Rn_nx pg38 rfl ((if_pos ⟨hk, hk2⟩).trans (if_neg hx))
theorem sX6_readMethod_27 : Rn r 38 27 [l0, l1, l2] [vI x0] h Q ↔ Rn r 38 29 [l0, l1, l2] [vI 12, vI x0] h Q := Rn_nx pg38 rfl rfl
theorem sX6_readMethod_29 : Rn r 38 29 [l0, l1, l2] [vI x0, vI x1] h Q ↔ if x1 ≠ x0 then Rn r 38 38 [l0, l1, l2] [] h Q else Rn r 38 32 [l0, l1, l2] [] h Q := Rn_if pg38 rfl rfl rfl
theorem sX6_readMethod_32 : Rn r 38 32 [some (vR z), l1, l2] [] h Q ↔ Rn r 38 33 [some (vR z), l1, l2] [vR z] h Q := Rn_nx pg38 rfl rfl
theorem sX6_readMethod_33 (hk : hK h a0 = 15) : Rn r 38 33 [l0, l1, l2] [vR (some a0)] h Q ↔ Cl r 39 [vR (some a0)] h (Kt r 38 36 [l0, l1, l2] [] Q) := Rn_call pg38 rfl (by simp only [am_exec, am_inv, am_pop, am_lk, hk]; rfl) pg39 rfl rfl rfl
theorem sX6_readMethod_36 : Rn r 38 36 [l0, l1, l2] [vI x0] h Q ↔ Rn r 38 37 [l0, l1, l2] [] h Q := Rn_nx pg38 rfl rfl
theorem sX6_readMethod_37 : Rn r 38 37 [l0, l1, l2] [] h Q ↔ Q (Sum.inl none) h := Rn_end pg38 rfl rfl
theorem sX6_readMethod_38 : Rn r 38 38 [some (vR z), l1, l2] [] h Q ↔ Rn r 38 39 [some (vR z), l1, l2] [vR z] h Q := Rn_nx pg38 rfl rfl
theorem sX6_readMethod_39 (hk : hK h a0 = 15) : Rn r 38 39 [l0, l1, l2] [vR (some a0)] h Q ↔ Cl r 35 [vR (some a0)] h (Kt r 38 42 [l0, l1, l2] [] Q) := Rn_call pg38 rfl (by simp only [am_exec, am_inv, am_pop, am_lk, hk]; rfl) pg35 rfl rfl rfl
theorem sX6_readMethod_42 : Rn r 38 42 [some (vR z), l1, l2] [] h Q ↔ Rn r 38 43 [some (vR z), l1, l2] [vR z] h Q := Rn_nx pg38 rfl rfl
theorem sX6_readMethod_43 (hk : hK h a0 = 15) : Rn r 38 43 [l0, l1, l2] [vR (some a0)] h Q ↔ Cl r 88 [vR (some a0)] h (Kt r 38 46 [l0, l1, l2] [] Q) := Rn_call pg38 rfl (by simp only [am_exec, am_inv, am_pop, am_lk, hk]; rfl) pg88 rfl rfl rfl
theorem sX6_readMethod_46 : Rn r 38 46 [l0, l1, l2] [vI x0] h Q ↔ if x0 ≠ 0 then Rn r 38 50 [l0, l1, l2] [] h Q else Rn r 38 49 [l0, l1, l2] [] h Q := Rn_if pg38 rfl rfl rfl
theorem sX6_readMethod_49 : Rn r 38 49 [l0, l1, l2] [] h Q ↔ Q (Sum.inl none) h := Rn_end pg38 rfl rfl
theorem sX6_readMethod_50 : Rn r 38 50 [some (vR z), l1, l2] [] h Q ↔ Rn r 38 51 [some (vR z), l1, l2] [vR z] h Q := Rn_nx pg38 rfl rfl
theorem sX6_readMethod_51 (hk : hK h a0 = 15) : Rn r 38 51 [l0, l1, l2] [vR (some a0)] h Q ↔ Rn r 38 54 [l0, l1, l2] [vR (hR h a0 10)] h Q := Rn_nx pg38 rfl (if_pos ⟨(hk ▸ Nat.le_refl _), (hk ▸ Nat.le_refl _)⟩)
theorem sX6_readMethod_54 : Rn r 38 54 [l0, some (vI x), l2] [vR z0] h Q ↔ Rn r 38 55 [l0, some (vI x), l2] [vI x, vR z0] h Q := Rn_nx pg38 rfl rfl
theorem sX6_readMethod_55 : Rn r 38 55 [some (vR z), l1, l2] [vI x0, vR z1] h Q ↔ Rn r 38 56 [some (vR z), l1, l2] [vR z, vI x0, vR z1] h Q := Rn_nx pg38 rfl rfl
theorem sX6_readMethod_56 (hk : hK h a0 = 15) : Rn r 38 56 [l0, l1, l2] [vR (some a0), vI x1, vR z2] h Q ↔ Rn r 38 59 [l0, l1, l2] [vL (hJ h a0 53), vI x1, vR z2] h Q := Rn_nx pg38 rfl (if_pos ⟨(hk ▸ Nat.le_refl _), (hk ▸ Nat.le_refl _)⟩)
theorem sX6_readMethod_59 (hk : hK h a2 = 42) (hx : ¬ (x1 < 0 ∨ hL h a2 ≤ x1.toNatClampNeg)) : Rn r 38 59 [l0, l1, l2] [vL y0, vI x1, vR (some a2)] h Q ↔ Rn r 38 60 [l0, l1, l2] [] (putJ h a2 x1.toNatClampNeg y0) Q := Rn_nx pg38 rfl ((if_pos hk).trans (if_neg hx))
theorem sX6_readMethod_60 : Rn r 38 60 [some (vR z), l1, l2] [] h Q ↔ Rn r 38 61 [some (vR z), l1, l2] [vR z] h Q := Rn_nx pg38 rfl rfl
theorem sX6_readMethod_61 (hk : hK h a0 = 15) : Rn r 38 61 [l0, l1, l2] [vR (some a0)] h Q ↔ Rn r 38 64 [l0, l1, l2] [vR (hR h a0 11)] h Q := Rn_nx pg38 rfl (if_pos ⟨(hk ▸ Nat.le_refl _), (hk ▸ Nat.le_refl _)⟩)
theorem sX6_readMethod_64 : Rn r 38 64 [l0, some (vI x), l2] [vR z0] h Q ↔ Rn r 38 65 [l0, some (vI x), l2] [vI x, vR z0] h Q := Rn_nx pg38 rfl rfl
theorem sX6_readMethod_65 : Rn r 38 65 [some (vR z), l1, l2] [vI x0, vR z1] h Q ↔ Rn r 38 66 [some (vR z), l1, l2] [vR z, vI x0, vR z1] h Q := Rn_nx pg38 rfl rfl
theorem sX6_readMethod_66 (hk : hK h a0 = 15) : Rn r 38 66 [l0, l1, l2] [vR (some a0), vI x1, vR z2] h Q ↔ Rn r 38 69 [l0, l1, l2] [vI (hI h a0 54), vI x1, vR z2] h Q := Rn_nx pg38 rfl (if_pos ⟨(hk ▸ Nat.le_refl _), (hk ▸ Nat.le_refl _)⟩)
theorem sX6_readMethod_69 (hk : hK h a2 = 40) (hx : ¬ (x1 < 0 ∨ hL h a2 ≤ x1.toNatClampNeg)) : Rn r 38 69 [l0, l1, l2] [vI x0, vI x1, vR (some a2)] h Q ↔ Rn r 38 70 [l0, l1, l2] [] (putI h a2 x1.toNatClampNeg x0) Q := Rn_nx pg38 rfl ((if_pos hk).trans (if_neg hx))
theorem sX6_readMethod_70 : Rn r 38 70 [some (vR z), l1, l2] [] h Q ↔ Rn r 38 71 [some (vR z), l1, l2] [vR z] h Q := Rn_nx pg38 rfl rfl
theorem sX6_readMethod_71 (hk : hK h a0 = 15) : Rn r 38 71 [l0, l1, l2] [vR (some a0)] h Q ↔ Rn r 38 74 [l0, l1, l2] [vR (hR h a0 12)] h Q := Rn_nx pg38 rfl (if_pos ⟨(hk ▸ Nat.le_refl _), (hk ▸ Nat.le_refl _)⟩)
theorem sX6_readMethod_74 : Rn r 38 74 [l0, some (vI x), l2] [vR z0] h Q ↔ Rn r 38 75 [l0, some (vI x), l2] [vI x, vR z0] h Q := Rn_nx pg38 rfl rfl
theorem sX6_readMethod_75 : Rn r 38 75 [l0, l1, l2] [vI x0, vR z1] h Q ↔ Rn r 38 76 [l0, l1, l2] [vL 0, vI x0, vR z1] h Q := Rn_nx pg38 rfl rfl
theorem sX6_readMethod_76 (hk : hK h a2 = 42) (hx : ¬ (x1 < 0 ∨ hL h a2 ≤ x1.toNatClampNeg)) : Rn r 38 76 [l0, l1, l2] [vL y0, vI x1, vR (some a2)] h Q ↔ Rn r 38 77 [l0, l1, l2] [] (putJ h a2 x1.toNatClampNeg y0) Q := Rn_nx pg38 rfl ((if_pos hk).trans (if_neg hx))
theorem sX6_readMethod_77 : Rn r 38 77 [some (vR z), l1, l2] [] h Q ↔ Rn r 38 78 [some (vR z), l1, l2] [vR z] h Q := Rn_nx pg38 rfl rfl
theorem sX6_readMethod_78 (hk : hK h a0 = 15) : Rn r 38 78 [l0, l1, l2] [vR (some a0)] h Q ↔ Rn r 38 81 [l0, l1, l2] [vR (hR h a0 15)] h Q := Rn_nx pg38 rfl (if_pos ⟨(hk ▸ Nat.le_refl _), (hk ▸ Nat.le_refl _)⟩)
theorem sX6_readMethod_81 : Rn r 38 81 [l0, some (vI x), l2] [vR z0] h Q ↔ Rn r 38 82 [l0, some (vI x), l2] [vI x, vR z0] h Q := Rn_nx pg38 rfl rfl
theorem sX6_readMethod_82 : Rn r 38 82 [l0, l1, l2] [vI x0, vR z1] h Q ↔ Rn r 38 83 [l0, l1, l2] [vI 0, vI x0, vR z1] h Q := Rn_nx pg38 rfl rfl
theorem sX6_readMethod_83 (hk : hK h a2 = 40) (hx : ¬ (x1 < 0 ∨ hL h a2 ≤ x1.toNatClampNeg)) : Rn r 38 83 [l0, l1, l2] [vI x0, vI x1, vR (some a2)] h Q ↔ Rn r 38 84 [l0, l1, l2] [] (putI h a2 x1.toNatClampNeg x0) Q := Rn_nx pg38 rfl ((if_pos hk).trans (if_neg hx))
theorem sX6_readMethod_84 : Rn r 38 84 [some (vR z), l1, l2] [] h Q ↔ Rn r 38 85 [some (vR z), l1, l2] [vR z] h Q := Rn_nx pg38 rfl rfl
theorem sX6_readMethod_85 (hk : hK h a0 = 15) : Rn r 38 85 [l0, l1, l2] [vR (some a0)] h Q ↔ Rn r 38 88 [l0, l1, l2] [vR (hR h a0 18)] h Q := Rn_nx pg38 rfl (if_pos ⟨(hk ▸ Nat.le_refl _), (hk ▸ Nat.le_refl _)⟩)
theorem sX6_readMethod_88 : Rn r 38 88 [l0, some (vI x), l2] [vR z0] h Q ↔ Rn r 38 89 [l0, some (vI x), l2] [vI x, vR z0] h Q := Rn_nx pg38 rfl rfl
theorem sX6_readMethod_89 : Rn r 38 89 [l0, l1, l2] [vI x0, vR z1] h Q ↔ Rn r 38 90 [l0, l1, l2] [vI (-1), vI x0, vR z1] h Q := Rn_nx pg38 rfl rfl
theorem sX6_readMethod_90 (hk : hK h a2 = 40) (hx : ¬ (x1 < 0 ∨ hL h a2 ≤ x1.toNatClampNeg)) : Rn r 38 90 [l0, l1, l2] [vI x0, vI x1, vR (some a2)] h Q ↔ Rn r 38 91 [l0, l1, l2] [] (putI h a2 x1.toNatClampNeg x0) Q := Rn_nx pg38 rfl ((if_pos hk).trans (if_neg hx))
theorem sX6_readMethod_91 : Rn r 38 91 [some (vR z), l1, l2] [] h Q ↔ Rn r 38 92 [some (vR z), l1, l2] [vR z] h Q := Rn_nx pg38 rfl rfl
theorem sX6_readMethod_92 : Rn r 38 92 [l0, l1, l2] [vR z0] h Q ↔ Rn r 38 95 [l0, l1, l2] [vL 1870030194, vR z0] h Q := Rn_nx pg38 rfl rfl
theorem sX6_readMethod_95 (hk : hK h a1 = 15) : Rn r 38 95 [l0, l1, l2] [vL y0, vR (some a1)] h Q ↔ Cl r 36 [vR (some a1), vL y0] h (Kt r 38 98 [l0, l1, l2] [] Q) := Rn_call pg38 rfl (by simp only [am_exec, am_inv, am_pop, am_lk, hk]; rfl) pg36 rfl rfl rfl
theorem sX6_readMethod_98 : Rn r 38 98 [l0, l1, l2] [vI x0] h Q ↔ if x0 = 0 then Rn r 38 133 [l0, l1, l2] [] h Q else Rn r 38 101 [l0, l1, l2] [] h Q := Rn_if pg38 rfl rfl rfl
theorem sX6_readMethod_101 : Rn r 38 101 [some (vR z), l1, l2] [] h Q ↔ Rn r 38 102 [some (vR z), l1, l2] [vR z] h Q := Rn_nx pg38 rfl rfl
theorem sX6_readMethod_102 (hk : hK h a0 = 15) : Rn r 38 102 [l0, l1, l2] [vR (some a0)] h Q ↔ Cl r 35 [vR (some a0)] h (Kt r 38 105 [l0, l1, l2] [] Q) := Rn_call pg38 rfl (by simp only [am_exec, am_inv, am_pop, am_lk, hk]; rfl) pg35 rfl rfl rfl
theorem sX6_readMethod_105 : Rn r 38 105 [some (vR z), l1, l2] [] h Q ↔ Rn r 38 106 [some (vR z), l1, l2] [vR z] h Q := Rn_nx pg38 rfl rfl
theorem sX6_readMethod_106 (hk : hK h a0 = 15) : Rn r 38 106 [l0, l1, l2] [vR (some a0)] h Q ↔ Cl r 88 [vR (some a0)] h (Kt r 38 109 [l0, l1, l2] [] Q) := Rn_call pg38 rfl (by simp only [am_exec, am_inv, am_pop, am_lk, hk]; rfl) pg88 rfl rfl rfl
theorem sX6_readMethod_109 : Rn r 38 109 [l0, l1, l2] [vI x0] h Q ↔ if x0 ≠ 0 then Rn r 38 113 [l0, l1, l2] [] h Q else Rn r 38 112 [l0, l1, l2] [] h Q := Rn_if pg38 rfl rfl rfl
theorem sX6_readMethod_112 : Rn r 38 112 [l0, l1, l2] [] h Q ↔ Q (Sum.inl none) h := Rn_end pg38 rfl rfl
theorem sX6_readMethod_113 : Rn r 38 113 [some (vR z), l1, l2] [] h Q ↔ Rn r 38 114 [some (vR z), l1, l2] [vR z] h Q := Rn_nx pg38 rfl rfl
theorem sX6_readMethod_114 (hk : hK h a0 = 15) : Rn r 38 114 [l0, l1, l2] [vR (some a0)] h Q ↔ Rn r 38 117 [l0, l1, l2] [vR (hR h a0 12)] h Q := Rn_nx pg38 rfl (if_pos ⟨(hk ▸ Nat.le_refl _), (hk ▸ Nat.le_refl _)⟩)
theorem sX6_readMethod_117 : Rn r 38 117 [l0, some (vI x), l2] [vR z0] h Q ↔ Rn r 38 118 [l0, some (vI x), l2] [vI x, vR z0] h Q := Rn_nx pg38 rfl rfl
theorem sX6_readMethod_118 : Rn r 38 118 [some (vR z), l1, l2] [vI x0, vR z1] h Q ↔ Rn r 38 119 [some (vR z), l1, l2] [vR z, vI x0, vR z1] h Q := Rn_nx pg38 rfl rfl
theorem sX6_readMethod_119 (hk : hK h a0 = 15) : Rn r 38 119 [l0, l1, l2] [vR (some a0), vI x1, vR z2] h Q ↔ Rn r 38 122 [l0, l1, l2] [vL (hJ h a0 53), vI x1, vR z2] h Q := Rn_nx pg38 rfl (if_pos ⟨(hk ▸ Nat.le_refl _), (hk ▸ Nat.le_refl _)⟩)
theorem sX6_readMethod_122 (hk : hK h a2 = 42) (hx : ¬ (x1 < 0 ∨ hL h a2 ≤ x1.toNatClampNeg)) : Rn r 38 122 [l0, l1, l2] [vL y0, vI x1, vR (some a2)] h Q ↔ Rn r 38 123 [l0, l1, l2] [] (putJ h a2 x1.toNatClampNeg y0) Q := Rn_nx pg38 rfl ((if_pos hk).trans (if_neg hx))
theorem sX6_readMethod_123 : Rn r 38 123 [some (vR z), l1, l2] [] h Q ↔ Rn r 38 124 [some (vR z), l1, l2] [vR z] h Q := Rn_nx pg38 rfl rfl
theorem sX6_readMethod_124 (hk : hK h a0 = 15) : Rn r 38 124 [l0, l1, l2] [vR (some a0)] h Q ↔ Rn r 38 127 [l0, l1, l2] [vR (hR h a0 13)] h Q := Rn_nx pg38 rfl (if_pos ⟨(hk ▸ Nat.le_refl _), (hk ▸ Nat.le_refl _)⟩)
theorem sX6_readMethod_127 : Rn r 38 127 [l0, some (vI x), l2] [vR z0] h Q ↔ Rn r 38 128 [l0, some (vI x), l2] [vI x, vR z0] h Q := Rn_nx pg38 rfl rfl
theorem sX6_readMethod_128 : Rn r 38 128 [some (vR z), l1, l2] [vI x0, vR z1] h Q ↔ Rn r 38 129 [some (vR z), l1, l2] [vR z, vI x0, vR z1] h Q := Rn_nx pg38 rfl rfl
theorem sX6_readMethod_129 (hk : hK h a0 = 15) : Rn r 38 129 [l0, l1, l2] [vR (some a0), vI x1, vR z2] h Q ↔ Rn r 38 132 [l0, l1, l2] [vI (hI h a0 54), vI x1, vR z2] h Q := Rn_nx pg38 rfl (if_pos ⟨(hk ▸ Nat.le_refl _), (hk ▸ Nat.le_refl _)⟩)
theorem sX6_readMethod_132 (hk : hK h a2 = 40) (hx : ¬ (x1 < 0 ∨ hL h a2 ≤ x1.toNatClampNeg)) : Rn r 38 132 [l0, l1, l2] [vI x0, vI x1, vR (some a2)] h Q ↔ Rn r 38 133 [l0, l1, l2] [] (putI h a2 x1.toNatClampNeg x0) Q := Rn_nx pg38 rfl ((if_pos hk).trans (if_neg hx))
theorem sX6_readMethod_133 : Rn r 38 133 [some (vR z), l1, l2] [] h Q ↔ Rn r 38 134 [some (vR z), l1, l2] [vR z] h Q := Rn_nx pg38 rfl rfl
theorem sX6_readMethod_134 (hk : hK h a0 = 15) : Rn r 38 134 [l0, l1, l2] [vR (some a0)] h Q ↔ Rn r 38 137 [l0, l1, l2] [vR (hR h a0 14)] h Q := Rn_nx pg38 rfl (if_pos ⟨(hk ▸ Nat.le_refl _), (hk ▸ Nat.le_refl _)⟩)
theorem sX6_readMethod_137 : Rn r 38 137 [l0, some (vI x), l2] [vR z0] h Q ↔ Rn r 38 138 [l0, some (vI x), l2] [vI x, vR z0] h Q := Rn_nx pg38 rfl rfl
theorem sX6_readMethod_138 : Rn r 38 138 [some (vR z), l1, l2] [vI x0, vR z1] h Q ↔ Rn r 38 139 [some (vR z), l1, l2] [vR z, vI x0, vR z1] h Q := Rn_nx pg38 rfl rfl
theorem sX6_readMethod_139 : Rn r 38 139 [l0, l1, l2] [vR z0, vI x1, vR z2] h Q ↔ Rn r 38 142 [l0, l1, l2] [vL 1718773093, vR z0, vI x1, vR z2] h Q := Rn_nx pg38 rfl rfl
theorem sX6_readMethod_142 (hk : hK h a1 = 15) : Rn r 38 142 [l0, l1, l2] [vL y0, vR (some a1), vI x2, vR z3] h Q ↔ Cl r 36 [vR (some a1), vL y0] h (Kt r 38 145 [l0, l1, l2] [vI x2, vR z3] Q) := Rn_call pg38 rfl (by simp only [am_exec, am_inv, am_pop, am_lk, hk]; rfl) pg36 rfl rfl rfl
theorem sX6_readMethod_145 (hk : hK h a2 = 43) (hf : am_fit 4 x0 = true) (hx : ¬ (x1 < 0 ∨ hL h a2 ≤ x1.toNatClampNeg)) : Rn r 38 145 [l0, l1, l2] [vI x0, vI x1, vR (some a2)] h Q ↔ Rn r 38 146 [l0, l1, l2] [] (putI h a2 x1.toNatClampNeg x0) Q := Rn_nx pg38 rfl ((if_pos hk).trans ((if_pos hf).trans (if_neg hx)))
theorem sX6_readMethod_146 : Rn r 38 146 [some (vR z), l1, l2] [] h Q ↔ Rn r 38 147 [some (vR z), l1, l2] [vR z] h Q := Rn_nx pg38 rfl rfl
theorem sX6_readMethod_147 (hk : hK h a0 = 15) : Rn r 38 147 [l0, l1, l2] [vR (some a0)] h Q ↔ Rn r 38 150 [l0, l1, l2] [vR (hR h a0 14)] h Q := Rn_nx pg38 rfl (if_pos ⟨(hk ▸ Nat.le_refl _), (hk ▸ Nat.le_refl _)⟩)
theorem sX6_readMethod_150 : Rn r 38 150 [l0, some (vI x), l2] [vR z0] h Q ↔ Rn r 38 151 [l0, some (vI x), l2] [vI x, vR z0] h Q := Rn_nx pg38 rfl rfl
theorem sX6_readMethod_151 (hk : 43 ≤ hK h a1) (hk2 : hK h a1 ≤ 45) (hx : ¬ (x0 < 0 ∨ hL h a1 ≤ x0.toNatClampNeg)) : Rn r 38 151 [l0, l1, l2] [vI x0, vR (some a1)] h Q ↔ Rn r 38 152 [l0, l1, l2] [vI (hI h a1 x0.toNatClampNeg)] h Q := Rn_nx pg38 rfl ((if_pos ⟨hk, hk2⟩).trans (if_neg hx))
theorem sX6_readMethod_152 : Rn r 38 152 [l0, l1, l2] [vI x0] h Q ↔ if x0 = 0 then Rn r 38 159 [l0, l1, l2] [] h Q else Rn r 38 155 [l0, l1, l2] [] h Q := Rn_if pg38 rfl rfl rfl
theorem sX6_readMethod_155 : Rn r 38 155 [some (vR z), l1, l2] [] h Q ↔ Rn r 38 156 [some (vR z), l1, l2] [vR z] h Q := Rn_nx pg38 rfl rfl
theorem sX6_readMethod_156 (hk : hK h a0 = 15) : Rn r 38 156 [l0, l1, l2] [vR (some a0)] h Q ↔ Cl r 35 [vR (some a0)] h (Kt r 38 159 [l0, l1, l2] [] Q) := Rn_call pg38 rfl (by simp only [am_exec, am_inv, am_pop, am_lk, hk]; rfl) pg35 rfl rfl rfl
theorem sX6_readMethod_159 : Rn r 38 159 [some (vR z), l1, l2] [] h Q ↔ Rn r 38 160 [some (vR z), l1, l2] [vR z] h Q := Rn_nx pg38 rfl rfl
theorem sX6_readMethod_160 : Rn r 38 160 [l0, l1, l2] [vR z0] h Q ↔ Rn r 38 163 [l0, l1, l2] [vL 127991945328499, vR z0] h Q := Rn_nx pg38 rfl rfl
theorem sX6_readMethod_163 (hk : hK h a1 = 15) : Rn r 38 163 [l0, l1, l2] [vL y0, vR (some a1)] h Q ↔ Cl r 36 [vR (some a1), vL y0] h (Kt r 38 166 [l0, l1, l2] [] Q) := Rn_call pg38 rfl (by simp only [am_exec, am_inv, am_pop, am_lk, hk]; rfl) pg36 rfl rfl rfl
theorem sX6_readMethod_166 : Rn r 38 166 [l0, l1, l2] [vI x0] h Q ↔ if x0 = 0 then Rn r 38 269 [l0, l1, l2] [] h Q else Rn r 38 169 [l0, l1, l2] [] h Q := Rn_if pg38 rfl rfl rfl
theorem sX6_readMethod_169 : Rn r 38 169 [l0, l1, l2] [] h Q ↔ Rn r 38 170 [l0, l1, l2] [vI 1] h Q := Rn_nx pg38 rfl rfl
theorem sX6_readMethod_170 : Rn r 38 170 [l0, l1, l2] [vI x0] h Q ↔ Rn r 38 171 [l0, l1, some (vI x0)] [] h Q := Rn_nx pg38 rfl rfl
theorem sX6_readMethod_171 : Rn r 38 171 [l0, l1, some (vI x)] [] h Q ↔ Rn r 38 172 [l0, l1, some (vI x)] [vI x] h Q := Rn_nx pg38 rfl rfl
theorem sX6_readMethod_172 : Rn r 38 172 [l0, l1, l2] [vI x0] h Q ↔ if x0 = 0 then Rn r 38 269 [l0, l1, l2] [] h Q else Rn r 38 175 [l0, l1, l2] [] h Q := Rn_if pg38 rfl rfl rfl
theorem sX6_readMethod_175 : Rn r 38 175 [some (vR z), l1, l2] [] h Q ↔ Rn r 38 176 [some (vR z), l1, l2] [vR z] h Q := Rn_nx pg38 rfl rfl
theorem sX6_readMethod_176 (hk : hK h a0 = 15) : Rn r 38 176 [l0, l1, l2] [vR (some a0)] h Q ↔ Cl r 35 [vR (some a0)] h (Kt r 38 179 [l0, l1, l2] [] Q) := Rn_call pg38 rfl (by simp only [am_exec, am_inv, am_pop, am_lk, hk]; rfl) pg35 rfl rfl rfl
theorem sX6_readMethod_179 : Rn r 38 179 [some (vR z), l1, l2] [] h Q ↔ Rn r 38 180 [some (vR z), l1, l2] [vR z] h Q := Rn_nx pg38 rfl rfl
theorem sX6_readMethod_180 (hk : hK h a0 = 15) : Rn r 38 180 [l0, l1, l2] [vR (some a0)] h Q ↔ Rn r 38 183 [l0, l1, l2] [vR (hR h a0 15)] h Q := Rn_nx pg38 rfl (if_pos ⟨(hk ▸ Nat.le_refl _), (hk ▸ Nat.le_refl _)⟩)
theorem sX6_readMethod_183 : Rn r 38 183 [l0, some (vI x), l2] [vR z0] h Q ↔ Rn r 38 184 [l0, some (vI x), l2] [vI x, vR z0] h Q := Rn_nx pg38 rfl rfl
theorem sX6_readMethod_184 (hk : 40 ≤ hK h a1) (hk2 : hK h a1 ≤ 41) (hx : ¬ (x0 < 0 ∨ hL h a1 ≤ x0.toNatClampNeg)) : Rn r 38 184 [l0, l1, l2] [vI x0, vR (some a1)] h Q ↔ Rn r 38 185 [l0, l1, l2] [vI (hI h a1 x0.toNatClampNeg)] h Q := Rn_nx pg38 rfl ((if_pos ⟨hk, hk2⟩).trans (if_neg hx))
theorem sX6_readMethod_185 : Rn r 38 185 [l0, l1, l2] [vI x0] h Q ↔ Rn r 38 186 [l0, l1, l2] [vI 4, vI x0] h Q := Rn_nx pg38 rfl rfl
theorem sX6_readMethod_186 : Rn r 38 186 [l0, l1, l2] [vI x0, vI x1] h Q ↔ if x1 ≠ x0 then Rn r 38 195 [l0, l1, l2] [] h Q else Rn r 38 189 [l0, l1, l2] [] h Q := Rn_if pg38 rfl rfl rfl
theorem sX6_readMethod_189 : Rn r 38 189 [some (vR z), l1, l2] [] h Q ↔ Rn r 38 190 [some (vR z), l1, l2] [vR z] h Q := Rn_nx pg38 rfl rfl
theorem sX6_readMethod_190 (hk : hK h a0 = 15) : Rn r 38 190 [l0, l1, l2] [vR (some a0)] h Q ↔ Cl r 39 [vR (some a0)] h (Kt r 38 193 [l0, l1, l2] [] Q) := Rn_call pg38 rfl (by simp only [am_exec, am_inv, am_pop, am_lk, hk]; rfl) pg39 rfl rfl rfl
theorem sX6_readMethod_193 : Rn r 38 193 [l0, l1, l2] [vI x0] h Q ↔ Rn r 38 194 [l0, l1, l2] [] h Q := Rn_nx pg38 rfl rfl
theorem sX6_readMethod_194 : Rn r 38 194 [l0, l1, l2] [] h Q ↔ Q (Sum.inl none) h := Rn_end pg38 rfl rfl
theorem sX6_readMethod_195 : Rn r 38 195 [some (vR z), l1, l2] [] h Q ↔ Rn r 38 196 [some (vR z), l1, l2] [vR z] h Q := Rn_nx pg38 rfl rfl
theorem sX6_readMethod_196 (hk : hK h a0 = 15) : Rn r 38 196 [l0, l1, l2] [vR (some a0)] h Q ↔ Cl r 88 [vR (some a0)] h (Kt r 38 199 [l0, l1, l2] [] Q) := Rn_call pg38 rfl (by simp only [am_exec, am_inv, am_pop, am_lk, hk]; rfl) pg88 rfl rfl rfl
theorem sX6_readMethod_199 : Rn r 38 199 [l0, l1, l2] [vI x0] h Q ↔ if x0 ≠ 0 then Rn r 38 203 [l0, l1, l2] [] h Q else Rn r 38 202 [l0, l1, l2] [] h Q := Rn_if pg38 rfl rfl rfl
theorem sX6_readMethod_202 : Rn r 38 202 [l0, l1, l2] [] h Q ↔ Q (Sum.inl none) h := Rn_end pg38 rfl rfl
theorem sX6_readMethod_203 : Rn r 38 203 [some (vR z), l1, l2] [] h Q ↔ Rn r 38 204 [some (vR z), l1, l2] [vR z] h Q := Rn_nx pg38 rfl rfl
theorem sX6_readMethod_204 (hk : hK h a0 = 15) : Rn r 38 204 [l0, l1, l2] [vR (some a0)] h Q ↔ Rn r 38 207 [l0, l1, l2] [vR (hR h a0 16)] h Q := Rn_nx pg38 rfl (if_pos ⟨(hk ▸ Nat.le_refl _), (hk ▸ Nat.le_refl _)⟩)
theorem sX6_readMethod_207 : Rn r 38 207 [l0, l1, l2] [vR z0] h Q ↔ Rn r 38 208 [l0, l1, l2] [vI 4, vR z0] h Q := Rn_nx pg38 rfl rfl
theorem sX6_readMethod_208 : Rn r 38 208 [l0, some (vI x), l2] [vI x0, vR z1] h Q ↔ Rn r 38 209 [l0, some (vI x), l2] [vI x, vI x0, vR z1] h Q := Rn_nx pg38 rfl rfl
theorem sX6_readMethod_209 : Rn r 38 209 [l0, l1, l2] [vI x0, vI x1, vR z2] h Q ↔ Rn r 38 210 [l0, l1, l2] [vI (x1 * x0), vR z2] h Q := Rn_nx pg38 rfl rfl
theorem sX6_readMethod_210 : Rn r 38 210 [some (vR z), l1, l2] [vI x0, vR z1] h Q ↔ Rn r 38 211 [some (vR z), l1, l2] [vR z, vI x0, vR z1] h Q := Rn_nx pg38 rfl rfl
theorem sX6_readMethod_211 (hk : hK h a0 = 15) : Rn r 38 211 [l0, l1, l2] [vR (some a0), vI x1, vR z2] h Q ↔ Rn r 38 214 [l0, l1, l2] [vR (hR h a0 15), vI x1, vR z2] h Q := Rn_nx pg38 rfl (if_pos ⟨(hk ▸ Nat.le_refl _), (hk ▸ Nat.le_refl _)⟩)
theorem sX6_readMethod_214 : Rn r 38 214 [l0, some (vI x), l2] [vR z0, vI x1, vR z2] h Q ↔ Rn r 38 215 [l0, some (vI x), l2] [vI x, vR z0, vI x1, vR z2] h Q := Rn_nx pg38 rfl rfl
theorem sX6_readMethod_215 (hk : 40 ≤ hK h a1) (hk2 : hK h a1 ≤ 41) (hx : ¬ (x0 < 0 ∨ hL h a1 ≤ x0.toNatClampNeg)) : Rn r 38 215 [l0, l1, l2] [vI x0, vR (some a1), vI x2, vR z3] h Q ↔ Rn r 38 216 [l0, l1, l2] [vI (hI h a1 x0.toNatClampNeg), vI x2, vR z3] h Q := Rn_nx pg38 rfl ((if_pos ⟨hk, hk2⟩).trans (if_neg hx))
theorem sX6_readMethod_216 : Rn r 38 216 [l0, l1, l2] [vI x0, vI x1, vR z2] h Q ↔ Rn r 38 217 [l0, l1, l2] [vI (x1 + x0), vR z2] h Q := Rn_nx pg38 rfl rfl
theorem sX6_readMethod_217 : Rn r 38 217 [some (vR z), l1, l2] [vI x0, vR z1] h Q ↔ Rn r 38 218 [some (vR z), l1, l2] [vR z, vI x0, vR z1] h Q := Rn_nx pg38 rfl rfl
theorem sX6_readMethod_218 (hk : hK h a0 = 15) : Rn r 38 218 [l0, l1, l2] [vR (some a0), vI x1, vR z2] h Q ↔ Rn r 38 221 [l0, l1, l2] [vL (hJ h a0 53), vI x1, vR z2] h Q := Rn_nx pg38 rfl (if_pos ⟨(hk ▸ Nat.le_refl _), (hk ▸ Nat.le_refl _)⟩)
theorem sX6_readMethod_221 (hk : hK h a2 = 42) (hx : ¬ (x1 < 0 ∨ hL h a2 ≤ x1.toNatClampNeg)) : Rn r 38 221 [l0, l1, l2] [vL y0, vI x1, vR (some a2)] h Q ↔ Rn r 38 222 [l0, l1, l2] [] (putJ h a2 x1.toNatClampNeg y0) Q := Rn_nx pg38 rfl ((if_pos hk).trans (if_neg hx))
theorem sX6_readMethod_222 : Rn r 38 222 [some (vR z), l1, l2] [] h Q ↔ Rn r 38 223 [some (vR z), l1, l2] [vR z] h Q := Rn_nx pg38 rfl rfl
theorem sX6_readMethod_223 (hk : hK h a0 = 15) : Rn r 38 223 [l0, l1, l2] [vR (some a0)] h Q ↔ Rn r 38 226 [l0, l1, l2] [vR (hR h a0 17)] h Q := Rn_nx pg38 rfl (if_pos ⟨(hk ▸ Nat.le_refl _), (hk ▸ Nat.le_refl _)⟩)
theorem sX6_readMethod_226 : Rn r 38 226 [l0, l1, l2] [vR z0] h Q ↔ Rn r 38 227 [l0, l1, l2] [vI 4, vR z0] h Q := Rn_nx pg38 rfl rfl
theorem sX6_readMethod_227 : Rn r 38 227 [l0, some (vI x), l2] [vI x0, vR z1] h Q ↔ Rn r 38 228 [l0, some (vI x), l2] [vI x, vI x0, vR z1] h Q := Rn_nx pg38 rfl rfl
theorem sX6_readMethod_228 : Rn r 38 228 [l0, l1, l2] [vI x0, vI x1, vR z2] h Q ↔ Rn r 38 229 [l0, l1, l2] [vI (x1 * x0), vR z2] h Q := Rn_nx pg38 rfl rfl
theorem sX6_readMethod_229 : Rn r 38 229 [some (vR z), l1, l2] [vI x0, vR z1] h Q ↔ Rn r 38 230 [some (vR z), l1, l2] [vR z, vI x0, vR z1] h Q := Rn_nx pg38 rfl rfl
theorem sX6_readMethod_230 (hk : hK h a0 = 15) : Rn r 38 230 [l0, l1, l2] [vR (some a0), vI x1, vR z2] h Q ↔ Rn r 38 233 [l0, l1, l2] [vR (hR h a0 15), vI x1, vR z2] h Q := Rn_nx pg38 rfl (if_pos ⟨(hk ▸ Nat.le_refl _), (hk ▸ Nat.le_refl _)⟩)
theorem sX6_readMethod_233 : Rn r 38 233 [l0, some (vI x), l2] [vR z0, vI x1, vR z2] h Q ↔ Rn r 38 234 [l0, some (vI x), l2] [vI x, vR z0, vI x1, vR z2] h Q := Rn_nx pg38 rfl rfl
theorem sX6_readMethod_234 (hk : 40 ≤ hK h a1) (hk2 : hK h a1 ≤ 41) (hx : ¬ (x0 < 0 ∨ hL h a1 ≤ x0.toNatClampNeg)) : Rn r 38 234 [l0, l1, l2] [vI x0, vR (some a1), vI x2, vR z3] h Q ↔ Rn r 38 235 [l0, l1, l2] [vI (hI h a1 x0.toNatClampNeg), vI x2, vR z3] h Q := Rn_nx pg38 rfl ((if_pos ⟨hk, hk2⟩).trans (if_neg hx))
theorem sX6_readMethod_235 : Rn r 38 235 [l0, l1, l2] [vI x0, vI x1, vR z2] h Q ↔ Rn r 38 236 [l0, l1, l2] [vI (x1 + x0), vR z2] h Q := Rn_nx pg38 rfl rfl
theorem sX6_readMethod_236 : Rn r 38 236 [some (vR z), l1, l2] [vI x0, vR z1] h Q ↔ Rn r 38 237 [some (vR z), l1, l2] [vR z, vI x0, vR z1] h Q := Rn_nx pg38 rfl rfl
theorem sX6_readMethod_237 (hk : hK h a0 = 15) : Rn r 38 237 [l0, l1, l2] [vR (some a0), vI x1, vR z2] h Q ↔ Rn r 38 240 [l0, l1, l2] [vI (hI h a0 54), vI x1, vR z2] h Q := Rn_nx pg38 rfl (if_pos ⟨(hk ▸ Nat.le_refl _), (hk ▸ Nat.le_refl _)⟩)
theorem sX6_readMethod_240 (hk : hK h a2 = 40) (hx : ¬ (x1 < 0 ∨ hL h a2 ≤ x1.toNatClampNeg)) : Rn r 38 240 [l0, l1, l2] [vI x0, vI x1, vR (some a2)] h Q ↔ Rn r 38 241 [l0, l1, l2] [] (putI h a2 x1.toNatClampNeg x0) Q := Rn_nx pg38 rfl ((if_pos hk).trans (if_neg hx))
theorem sX6_readMethod_241 : Rn r 38 241 [some (vR z), l1, l2] [] h Q ↔ Rn r 38 242 [some (vR z), l1, l2] [vR z] h Q := Rn_nx pg38 rfl rfl
theorem sX6_readMethod_242 (hk : hK h a0 = 15) : Rn r 38 242 [l0, l1, l2] [vR (some a0)] h Q ↔ Rn r 38 245 [l0, l1, l2] [vR (hR h a0 15)] h Q := Rn_nx pg38 rfl (if_pos ⟨(hk ▸ Nat.le_refl _), (hk ▸ Nat.le_refl _)⟩)
theorem sX6_readMethod_245 : Rn r 38 245 [l0, some (vI x), l2] [vR z0] h Q ↔ Rn r 38 246 [l0, some (vI x), l2] [vI x, vR z0] h Q := Rn_nx pg38 rfl rfl
theorem sX6_readMethod_246 : Rn r 38 246 [l0, l1, l2] [vI x0, vR z1] h Q ↔ Rn r 38 247 [l0, l1, l2] [vI x0, vR z1, vI x0, vR z1] h Q := Rn_nx pg38 rfl rfl
theorem sX6_readMethod_247 (hk : 40 ≤ hK h a1) (hk2 : hK h a1 ≤ 41) (hx : ¬ (x0 < 0 ∨ hL h a1 ≤ x0.toNatClampNeg)) : Rn r 38 247 [l0, l1, l2] [vI x0, vR (some a1), vI x2, vR z3] h Q ↔ Rn r 38 248 [l0, l1, l2] [vI (hI h a1 x0.toNatClampNeg), vI x2, vR z3] h Q := Rn_nx pg38 rfl ((if_pos ⟨hk, hk2⟩).trans (if_neg hx))
theorem sX6_readMethod_248 : Rn r 38 248 [l0, l1, l2] [vI x0, vI x1, vR z2] h Q ↔ Rn r 38 249 [l0, l1, l2] [vI 1, vI x0, vI x1, vR z2] h Q := Rn_nx pg38 rfl rfl
theorem sX6_readMethod_249 : Rn r 38 249 [l0, l1, l2] [vI x0, vI x1, vI x2, vR z3] h Q ↔ Rn r 38 250 [l0, l1, l2] [vI (x1 + x0), vI x2, vR z3] h Q := Rn_nx pg38 rfl rfl
theorem sX6_readMethod_250 (hk : hK h a2 = 40) (hx : ¬ (x1 < 0 ∨ hL h a2 ≤ x1.toNatClampNeg)) : Rn r 38 250 [l0, l1, l2] [vI x0, vI x1, vR (some a2)] h Q ↔ Rn r 38 251 [l0, l1, l2] [] (putI h a2 x1.toNatClampNeg x0) Q := Rn_nx pg38 rfl ((if_pos hk).trans (if_neg hx))
theorem sX6_readMethod_251 : Rn r 38 251 [some (vR z), l1, l2] [] h Q ↔ Rn r 38 252 [some (vR z), l1, l2] [vR z] h Q := Rn_nx pg38 rfl rfl
theorem sX6_readMethod_252 (hk : hK h a0 = 15) : Rn r 38 252 [l0, l1, l2] [vR (some a0)] h Q ↔ Rn r 38 255 [l0, l1, l2] [vI (hI h a0 51)] h Q := Rn_nx pg38 rfl (if_pos ⟨(hk ▸ Nat.le_refl _), (hk ▸ Nat.le_refl _)⟩)
theorem sX6_readMethod_255 : Rn r 38 255 [l0, l1, l2] [vI x0] h Q ↔ Rn r 38 257 [l0, l1, l2] [vI 44, vI x0] h Q := Rn_nx pg38 rfl rfl
theorem sX6_readMethod_257 : Rn r 38 257 [l0, l1, l2] [vI x0, vI x1] h Q ↔ if x1 ≠ x0 then Rn r 38 264 [l0, l1, l2] [] h Q else Rn r 38 260 [l0, l1, l2] [] h Q := Rn_if pg38 rfl rfl rfl
theorem sX6_readMethod_260 : Rn r 38 260 [l0, l1, l2] [] h Q ↔ Rn r 38 261 [l0, l1, l2] [vI 1] h Q := Rn_nx pg38 rfl rfl
theorem sX6_readMethod_261 : Rn r 38 261 [l0, l1, l2] [vI x0] h Q ↔ Rn r 38 265 [l0, l1, l2] [vI x0] h Q := Rn_nx pg38 rfl rfl
theorem sX6_readMethod_264 : Rn r 38 264 [l0, l1, l2] [] h Q ↔ Rn r 38 265 [l0, l1, l2] [vI 0] h Q := Rn_nx pg38 rfl rfl
theorem sX6_readMethod_265 : Rn r 38 265 [l0, l1, l2] [vI x0] h Q ↔ Rn r 38 266 [l0, l1, some (vI x0)] [] h Q := Rn_nx pg38 rfl rfl
theorem sX6_readMethod_266 : Rn r 38 266 [l0, l1, l2] [] h Q ↔ Rn r 38 171 [l0, l1, l2] [] h Q := Rn_nx pg38 rfl rfl
theorem sX6_readMethod_269 : Rn r 38 269 [some (vR z), l1, l2] [] h Q ↔ Rn r 38 270 [some (vR z), l1, l2] [vR z] h Q := Rn_nx pg38 rfl rfl
theorem sX6_readMethod_270 (hk : hK h a0 = 15) : Rn r 38 270 [l0, l1, l2] [vR (some a0)] h Q ↔ Rn r 38 273 [l0, l1, l2] [vR (hR h a0 9)] h Q := Rn_nx pg38 rfl (if_pos ⟨(hk ▸ Nat.le_refl _), (hk ▸ Nat.le_refl _)⟩)
theorem sX6_readMethod_273 : Rn r 38 273 [some (vR z), l1, l2] [vR z0] h Q ↔ Rn r 38 274 [some (vR z), l1, l2] [vR z, vR z0] h Q := Rn_nx pg38 rfl rfl
theorem sX6_readMethod_274 (hk : hK h a0 = 15) : Rn r 38 274 [l0, l1, l2] [vR (some a0), vR z1] h Q ↔ Rn r 38 277 [l0, l1, l2] [vI (hI h a0 2), vR z1] h Q := Rn_nx pg38 rfl (if_pos ⟨(hk ▸ Nat.le_refl _), (hk ▸ Nat.le_refl _)⟩)
theorem sX6_readMethod_277 : Rn r 38 277 [l0, l1, l2] [vI x0, vR z1] h Q ↔ Rn r 38 278 [l0, l1, l2] [vI x0, vR z1, vI x0, vR z1] h Q := Rn_nx pg38 rfl rfl
theorem sX6_readMethod_278 (hk : 40 ≤ hK h a1) (hk2 : hK h a1 ≤ 41) (hx : ¬ (x0 < 0 ∨ hL h a1 ≤ x0.toNatClampNeg)) : Rn r 38 278 [l0, l1, l2] [vI x0, vR (some a1), vI x2, vR z3] h Q ↔ Rn r 38 279 [l0, l1, l2] [vI (hI h a1 x0.toNatClampNeg), vI x2, vR z3] h Q := Rn_nx pg38 rfl ((if_pos ⟨hk, hk2⟩).trans (if_neg hx))
theorem sX6_readMethod_279 : Rn r 38 279 [l0, l1, l2] [vI x0, vI x1, vR z2] h Q ↔ Rn r 38 280 [l0, l1, l2] [vI 1, vI x0, vI x1, vR z2] h Q := Rn_nx pg38 rfl rfl
theorem sX6_readMethod_280 : Rn r 38 280 [l0, l1, l2] [vI x0, vI x1, vI x2, vR z3] h Q ↔ Rn r 38 281 [l0, l1, l2] [vI (x1 + x0), vI x2, vR z3] h Q := Rn_nx pg38 rfl rfl
theorem sX6_readMethod_281 (hk : hK h a2 = 40) (hx : ¬ (x1 < 0 ∨ hL h a2 ≤ x1.toNatClampNeg)) : Rn r 38 281 [l0, l1, l2] [vI x0, vI x1, vR (some a2)] h Q ↔ Rn r 38 282 [l0, l1, l2] [] (putI h a2 x1.toNatClampNeg x0) Q := Rn_nx pg38 rfl ((if_pos hk).trans (if_neg hx))
theorem sX6_readMethod_282 : Rn r 38 282 [some (vR z), l1, l2] [] h Q ↔ Rn r 38 283 [some (vR z), l1, l2] [vR z] h Q := Rn_nx pg38 rfl rfl
theorem sX6_readMethod_283 (hk : hK h a0 = 15) : Rn r 38 283 [l0, l1, l2] [vR (some a0)] h Q ↔ Rn r 38 286 [l0, l1, l2] [vI (hI h a0 51)] h Q := Rn_nx pg38 rfl (if_pos ⟨(hk ▸ Nat.le_refl _), (hk ▸ Nat.le_refl _)⟩)
theorem sX6_readMethod_286 : Rn r 38 286 [l0, l1, l2] [vI x0] h Q ↔ Rn r 38 288 [l0, l1, l2] [vI 59, vI x0] h Q := Rn_nx pg38 rfl rfl
theorem sX6_readMethod_288 : Rn r 38 288 [l0, l1, l2] [vI x0, vI x1] h Q ↔ if x1 ≠ x0 then Rn r 38 298 [l0, l1, l2] [] h Q else Rn r 38 291 [l0, l1, l2] [] h Q := Rn_if pg38 rfl rfl rfl
theorem sX6_readMethod_291 : Rn r 38 291 [some (vR z), l1, l2] [] h Q ↔ Rn r 38 292 [some (vR z), l1, l2] [vR z] h Q := Rn_nx pg38 rfl rfl
theorem sX6_readMethod_292 (hk : hK h a0 = 15) : Rn r 38 292 [l0, l1, l2] [vR (some a0)] h Q ↔ Cl r 35 [vR (some a0)] h (Kt r 38 295 [l0, l1, l2] [] Q) := Rn_call pg38 rfl (by simp only [am_exec, am_inv, am_pop, am_lk, hk]; rfl) pg35 rfl rfl rfl
theorem sX6_readMethod_295 : Rn r 38 295 [l0, l1, l2] [] h Q ↔ Rn r 38 321 [l0, l1, l2] [] h Q := Rn_nx pg38 rfl rfl
theorem sX6_readMethod_298 : Rn r 38 298 [some (vR z), l1, l2] [] h Q ↔ Rn r 38 299 [some (vR z), l1, l2] [vR z] h Q := Rn_nx pg38 rfl rfl
theorem sX6_readMethod_299 (hk : hK h a0 = 15) : Rn r 38 299 [l0, l1, l2] [vR (some a0)] h Q ↔ Rn r 38 302 [l0, l1, l2] [vR (hR h a0 18)] h Q := Rn_nx pg38 rfl (if_pos ⟨(hk ▸ Nat.le_refl _), (hk ▸ Nat.le_refl _)⟩)
theorem sX6_readMethod_302 : Rn r 38 302 [l0, some (vI x), l2] [vR z0] h Q ↔ Rn r 38 303 [l0, some (vI x), l2] [vI x, vR z0] h Q := Rn_nx pg38 rfl rfl
theorem sX6_readMethod_303 : Rn r 38 303 [some (vR z), l1, l2] [vI x0, vR z1] h Q ↔ Rn r 38 304 [some (vR z), l1, l2] [vR z, vI x0, vR z1] h Q := Rn_nx pg38 rfl rfl
theorem sX6_readMethod_304 : Rn r 38 304 [l0, l1, l2] [vR z0, vI x1, vR z2] h Q ↔ Rn r 38 305 [l0, l1, l2] [vI 0, vR z0, vI x1, vR z2] h Q := Rn_nx pg38 rfl rfl
theorem sX6_readMethod_305 : Rn r 38 305 [l0, l1, l2] [vI x0, vR z1, vI x2, vR z3] h Q ↔ Rn r 38 306 [l0, l1, l2] [vI (-1), vI x0, vR z1, vI x2, vR z3] h Q := Rn_nx pg38 rfl rfl
theorem sX6_readMethod_306 : Rn r 38 306 [some (vR z), l1, l2] [vI x0, vI x1, vR z2, vI x3, vR z4] h Q ↔ Rn r 38 307 [some (vR z), l1, l2] [vR z, vI x0, vI x1, vR z2, vI x3, vR z4] h Q := Rn_nx pg38 rfl rfl
theorem sX6_readMethod_307 (hk : hK h a0 = 15) : Rn r 38 307 [l0, l1, l2] [vR (some a0), vI x1, vI x2, vR z3, vI x4, vR z5] h Q ↔ Rn r 38 310 [l0, l1, l2] [vR (hR h a0 9), vI x1, vI x2, vR z3, vI x4, vR z5] h Q := Rn_nx pg38 rfl (if_pos ⟨(hk ▸ Nat.le_refl _), (hk ▸ Nat.le_refl _)⟩)
theorem sX6_readMethod_310 : Rn r 38 310 [some (vR z), l1, l2] [vR z0, vI x1, vI x2, vR z3, vI x4, vR z5] h Q ↔ Rn r 38 311 [some (vR z), l1, l2] [vR z, vR z0, vI x1, vI x2, vR z3, vI x4, vR z5] h Q := Rn_nx pg38 rfl rfl
theorem sX6_readMethod_311 (hk : hK h a0 = 15) : Rn r 38 311 [l0, l1, l2] [vR (some a0), vR z1, vI x2, vI x3, vR z4, vI x5, vR z6] h Q ↔ Rn r 38 314 [l0, l1, l2] [vI (hI h a0 2), vR z1, vI x2, vI x3, vR z4, vI x5, vR z6] h Q := Rn_nx pg38 rfl (if_pos ⟨(hk ▸ Nat.le_refl _), (hk ▸ Nat.le_refl _)⟩)
theorem sX6_readMethod_314 (hk : 40 ≤ hK h a1) (hk2 : hK h a1 ≤ 41) (hx : ¬ (x0 < 0 ∨ hL h a1 ≤ x0.toNatClampNeg)) : Rn r 38 314 [l0, l1, l2] [vI x0, vR (some a1), vI x2, vI x3, vR z4, vI x5, vR z6] h Q ↔ Rn r 38 315 [l0, l1, l2] [vI (hI h a1 x0.toNatClampNeg), vI x2, vI x3, vR z4, vI x5, vR z6] h Q := Rn_nx pg38 rfl ((if_pos ⟨hk, hk2⟩).trans (if_neg hx))
theorem sX6_readMethod_315 : Rn r 38 315 [l0, l1, l2] [vI x0, vI x1, vI x2, vR z3, vI x4, vR z5] h Q ↔ Rn r 38 316 [l0, l1, l2] [vI 1, vI x0, vI x1, vI x2, vR z3, vI x4, vR z5] h Q := Rn_nx pg38 rfl rfl
theorem sX6_readMethod_316 : Rn r 38 316 [l0, l1, l2] [vI x0, vI x1, vI x2, vI x3, vR z4, vI x5, vR z6] h Q ↔ Rn r 38 317 [l0, l1, l2] [vI (x1 - x0), vI x2, vI x3, vR z4, vI x5, vR z6] h Q := Rn_nx pg38 rfl rfl
theorem sX6_readMethod_317 (hk : hK h a3 = 15) : Rn r 38 317 [l0, l1, l2] [vI x0, vI x1, vI x2, vR (some a3), vI x4, vR z5] h Q ↔ Cl r 91 [vR (some a3), vI x2, vI x1, vI x0] h (Kt r 38 320 [l0, l1, l2] [vI x4, vR z5] Q) := Rn_call pg38 rfl (by simp only [am_exec, am_inv, am_pop, am_lk, hk]; rfl) pg91 rfl rfl rfl
theorem sX6_readMethod_320 (hk : hK h a2 = 40) (hx : ¬ (x1 < 0 ∨ hL h a2 ≤ x1.toNatClampNeg)) : Rn r 38 320 [l0, l1, l2] [vI x0, vI x1, vR (some a2)] h Q ↔ Rn r 38 321 [l0, l1, l2] [] (putI h a2 x1.toNatClampNeg x0) Q := Rn_nx pg38 rfl ((if_pos hk).trans (if_neg hx))
theorem sX6_readMethod_321 : Rn r 38 321 [l0, l1, l2] [] h Q ↔ Q (Sum.inl none) h := Rn_end pg38 rfl rfl
/-! 39 ThrowRulesModel.fails()Z -/
theorem eX6_fails : Cl r 39 [vR z0] h Q ↔ Rn r 39 0 [some (vR z0)] [] h Q := Cl_in pg39 rfl
theorem sX6_fails_0 : Rn r 39 0 [some (vR z)] [] h Q ↔ Rn r 39 1 [some (vR z)] [vR z] h Q := Rn_nx pg39 rfl rfl
theorem sX6_fails_1 : Rn r 39 1 [some (vR z)] [vR z0] h Q ↔ Rn r 39 2 [some (vR z)] [vR z, vR z0] h Q := Rn_nx pg39 rfl rfl
theorem sX6_fails_2 (hk : hK h a0 = 15) : Rn r 39 2 [l0] [vR (some a0), vR z1] h Q ↔ Rn r 39 5 [l0] [vI (hI h a0 52), vR z1] h Q := Rn_nx pg39 rfl (if_pos ⟨(hk ▸ Nat.le_refl _), (hk ▸ Nat.le_refl _)⟩)
theorem sX6_fails_5 : Rn r 39 5 [l0] [vI x0, vR z1] h Q ↔ Rn r 39 6 [l0] [vI (-1), vI x0, vR z1] h Q := Rn_nx pg39 rfl rfl
theorem sX6_fails_6 : Rn r 39 6 [l0] [vI x0, vI x1, vR z2] h Q ↔ if x1 ≠ x0 then Rn r 39 16 [l0] [vR z2] h Q else Rn r 39 9 [l0] [vR z2] h Q := Rn_if pg39 rfl rfl rfl
theorem sX6_fails_9 : Rn r 39 9 [some (vR z)] [vR z0] h Q ↔ Rn r 39 10 [some (vR z)] [vR z, vR z0] h Q := Rn_nx pg39 rfl rfl
theorem sX6_fails_10 (hk : hK h a0 = 15) : Rn r 39 10 [l0] [vR (some a0), vR z1] h Q ↔ Rn r 39 13 [l0] [vI (hI h a0 49), vR z1] h Q := Rn_nx pg39 rfl (if_pos ⟨(hk ▸ Nat.le_refl _), (hk ▸ Nat.le_refl _)⟩)
theorem sX6_fails_13 : Rn r 39 13 [l0] [vI x0, vR z1] h Q ↔ Rn r 39 20 [l0] [vI x0, vR z1] h Q := Rn_nx pg39 rfl rfl
theorem sX6_fails_16 : Rn r 39 16 [some (vR z)] [vR z0] h Q ↔ Rn r 39 17 [some (vR z)] [vR z, vR z0] h Q := Rn_nx pg39 rfl rfl
theorem sX6_fails_17 (hk : hK h a0 = 15) : Rn r 39 17 [l0] [vR (some a0), vR z1] h Q ↔ Rn r 39 20 [l0] [vI (hI h a0 52), vR z1] h Q := Rn_nx pg39 rfl (if_pos ⟨(hk ▸ Nat.le_refl _), (hk ▸ Nat.le_refl _)⟩)
theorem sX6_fails_20 (hk : hK h a1 = 15) : Rn r 39 20 [l0] [vI x0, vR (some a1)] h Q ↔ Rn r 39 23 [l0] [] (putI h a1 52 x0) Q := Rn_nx pg39 rfl ((if_pos ⟨(hk ▸ Nat.le_refl _), (hk ▸ Nat.le_refl _)⟩).trans rfl)
theorem sX6_fails_23 : Rn r 39 23 [l0] [] h Q ↔ Rn r 39 24 [l0] [vI 0] h Q := Rn_nx pg39 rfl rfl
theorem sX6_fails_24 (hf : am_fit 4 x0 = true) : Rn r 39 24 [l0] [vI x0] h Q ↔ Q (Sum.inl (some (vI x0))) h := Rn_end pg39 rfl (if_pos hf)
/-! 40 ThrowRulesModel.close()V -/
theorem eX6_close : Cl r 40 [vR z0] h Q ↔ Rn r 40 0 [some (vR z0), none, none] [] h Q := Cl_in pg40 rfl
theorem sX6_close_0 : Rn r 40 0 [some (vR z), l1, l2] [] h Q ↔ Rn r 40 1 [some (vR z), l1, l2] [vR z] h Q := Rn_nx pg40 rfl rfl
theorem sX6_close_1 : Rn r 40 1 [l0, l1, l2] [vR z0] h Q ↔ Rn r 40 2 [l0, l1, l2] [vR z0, vR z0] h Q := Rn_nx pg40 rfl rfl
theorem sX6_close_2 (hk : hK h a0 = 15) : Rn r 40 2 [l0, l1, l2] [vR (some a0), vR z1] h Q ↔ Rn r 40 5 [l0, l1, l2] [vI (hI h a0 55), vR z1] h Q := Rn_nx pg40 rfl (if_pos ⟨(hk ▸ Nat.le_refl _), (hk ▸ Nat.le_refl _)⟩)
theorem sX6_close_5 : Rn r 40 5 [l0, l1, l2] [vI x0, vR z1] h Q ↔ Rn r 40 6 [l0, l1, l2] [vI 1, vI x0, vR z1] h Q := Rn_nx pg40 rfl rfl
theorem sX6_close_6 : Rn r 40 6 [l0, l1, l2] [vI x0, vI x1, vR z2] h Q ↔ Rn r 40 7 [l0, l1, l2] [vI (x1 - x0), vR z2] h Q := Rn_nx pg40 rfl rfl
theorem sX6_close_7 (hk : hK h a1 = 15) : Rn r 40 7 [l0, l1, l2] [vI x0, vR (some a1)] h Q ↔ Rn r 40 10 [l0, l1, l2] [] (putI h a1 55 x0) Q := Rn_nx pg40 rfl ((if_pos ⟨(hk ▸ Nat.le_refl _), (hk ▸ Nat.le_refl _)⟩).trans rfl)
theorem sX6_close_10 : Rn r 40 10 [some (vR z), l1, l2] [] h Q ↔ Rn r 40 11 [some (vR z), l1, l2] [vR z] h Q := Rn_nx pg40 rfl rfl
theorem sX6_close_11 (hk : hK h a0 = 15) : Rn r 40 11 [l0, l1, l2] [vR (some a0)] h Q ↔ Rn r 40 14 [l0, l1, l2] [vR (hR h a0 56)] h Q := Rn_nx pg40 rfl (if_pos ⟨(hk ▸ Nat.le_refl _), (hk ▸ Nat.le_refl _)⟩)
theorem sX6_close_14 : Rn r 40 14 [some (vR z), l1, l2] [vR z0] h Q ↔ Rn r 40 15 [some (vR z), l1, l2] [vR z, vR z0] h Q := Rn_nx pg40 rfl rfl
theorem sX6_close_15 (hk : hK h a0 = 15) : Rn r 40 15 [l0, l1, l2] [vR (some a0), vR z1] h Q ↔ Rn r 40 18 [l0, l1, l2] [vI (hI h a0 55), vR z1] h Q := Rn_nx pg40 rfl (if_pos ⟨(hk ▸ Nat.le_refl _), (hk ▸ Nat.le_refl _)⟩)
theorem sX6_close_18 (hk : 40 ≤ hK h a1) (hk2 : hK h a1 ≤ 41) (hx : ¬ (x0 < 0 ∨ hL h a1 ≤ x0.toNatClampNeg)) : Rn r 40 18 [l0, l1, l2] [vI x0, vR (some a1)] h Q ↔ Rn r 40 19 [l0, l1, l2] [vI (hI h a1 x0.toNatClampNeg)] h Q := Rn_nx pg40 rfl ((if_pos ⟨hk, hk2⟩).trans (if_neg hx))
theorem sX6_close_19 : Rn r 40 19 [l0, l1, l2] [vI x0] h Q ↔ Rn r 40 20 [l0, some (vI x0), l2] [] h Q := Rn_nx pg40 rfl rfl
theorem sX6_close_20 : Rn r 40 20 [some (vR z), l1, l2] [] h Q ↔ Rn r 40 21 [some (vR z), l1, l2] [vR z] h Q := Rn_nx pg40 rfl rfl
theorem sX6_close_21 (hk : hK h a0 = 15) : Rn r 40 21 [l0, l1, l2] [vR (some a0)] h Q ↔ Rn r 40 24 [l0, l1, l2] [vR (hR h a0 42)] h Q := Rn_nx pg40 rfl (if_pos ⟨(hk ▸ Nat.le_refl _), (hk ▸ Nat.le_refl _)⟩)
theorem sX6_close_24 : Rn r 40 24 [l0, some (vI x), l2] [vR z0] h Q ↔ Rn r 40 25 [l0, some (vI x), l2] [vI x, vR z0] h Q := Rn_nx pg40 rfl rfl
theorem sX6_close_25 (hk : 40 ≤ hK h a1) (hk2 : hK h a1 ≤ 41) (hx : ¬ (x0 < 0 ∨ hL h a1 ≤ x0.toNatClampNeg)) : Rn r 40 25 [l0, l1, l2] [vI x0, vR (some a1)] h Q ↔ Rn r 40 26 [l0, l1, l2] [vI (hI h a1 x0.toNatClampNeg)] h Q := Rn_nx pg40 rfl ((if_pos ⟨hk, hk2⟩).trans (if_neg hx))
theorem sX6_close_26 : Rn r 40 26 [l0, l1, l2] [vI x0] h Q ↔ Rn r 40 27 [l0, l1, some (vI x0)] [] h Q := Rn_nx pg40 rfl rfl
theorem sX6_close_27 : Rn r 40 27 [some (vR z), l1, l2] [] h Q ↔ Rn r 40 28 [some (vR z), l1, l2] [vR z] h Q := Rn_nx pg40 rfl rfl
theorem sX6_close_28 (hk : hK h a0 = 15) : Rn r 40 28 [l0, l1, l2] [vR (some a0)] h Q ↔ Cl r 35 [vR (some a0)] h (Kt r 40 31 [l0, l1, l2] [] Q) := Rn_call pg40 rfl (by simp only [am_exec, am_inv, am_pop, am_lk, hk]; rfl) pg35 rfl rfl rfl
theorem sX6_close_31 : Rn r 40 31 [some (vR z), l1, l2] [] h Q ↔ Rn r 40 32 [some (vR z), l1, l2] [vR z] h Q := Rn_nx pg40 rfl rfl
theorem sX6_close_32 (hk : hK h a0 = 15) : Rn r 40 32 [l0, l1, l2] [vR (some a0)] h Q ↔ Rn r 40 35 [l0, l1, l2] [vR (hR h a0 41)] h Q := Rn_nx pg40 rfl (if_pos ⟨(hk ▸ Nat.le_refl _), (hk ▸ Nat.le_refl _)⟩)
theorem sX6_close_35 : Rn r 40 35 [l0, some (vI x), l2] [vR z0] h Q ↔ Rn r 40 36 [l0, some (vI x), l2] [vI x, vR z0] h Q := Rn_nx pg40 rfl rfl
theorem sX6_close_36 (hk : 40 ≤ hK h a1) (hk2 : hK h a1 ≤ 41) (hx : ¬ (x0 < 0 ∨ hL h a1 ≤ x0.toNatClampNeg)) : Rn r 40 36 [l0, l1, l2] [vI x0, vR (some a1)] h Q ↔ Rn r 40 37 [l0, l1, l2] [vI (hI h a1 x0.toNatClampNeg)] h Q := Rn_nx pg40 rfl ((if_pos ⟨hk, hk2⟩).trans (if_neg hx))
theorem sX6_close_37 : Rn r 40 37 [l0, l1, l2] [vI x0] h Q ↔ Rn r 40 (if x0 = 1 then 84 else if x0 = 2 then 94 else if x0 = 3 then 178 else if x0 = 4 then 178 else if x0 = 5 then 155 else if x0 = 6 then 155 else if x0 = 7 then 178 else if x0 = 8 then 124 else 178) [l0, l1, l2] [] h Q := Rn_nx pg40 rfl rfl
theorem sX6_close_84 : Rn r 40 84 [some (vR z), l1, l2] [] h Q ↔ Rn r 40 85 [some (vR z), l1, l2] [vR z] h Q := Rn_nx pg40 rfl rfl
theorem sX6_close_85 : Rn r 40 85 [l0, l1, l2] [vR z0] h Q ↔ Rn r 40 87 [l0, l1, l2] [vI 59, vR z0] h Q := Rn_nx pg40 rfl rfl
theorem sX6_close_87 (hk : hK h a1 = 15) : Rn r 40 87 [l0, l1, l2] [vI x0, vR (some a1)] h Q ↔ Cl r 90 [vR (some a1), vI x0] h (Kt r 40 90 [l0, l1, l2] [] Q) := Rn_call pg40 rfl (by simp only [am_exec, am_inv, am_pop, am_lk, hk]; rfl) pg90 rfl rfl rfl
theorem sX6_close_90 : Rn r 40 90 [l0, l1, l2] [vI x0] h Q ↔ Rn r 40 91 [l0, l1, l2] [] h Q := Rn_nx pg40 rfl rfl
theorem sX6_close_91 : Rn r 40 91 [l0, l1, l2] [] h Q ↔ Rn r 40 178 [l0, l1, l2] [] h Q := Rn_nx pg40 rfl rfl
theorem sX6_close_94 : Rn r 40 94 [some (vR z), l1, l2] [] h Q ↔ Rn r 40 95 [some (vR z), l1, l2] [vR z] h Q := Rn_nx pg40 rfl rfl
theorem sX6_close_95 : Rn r 40 95 [l0, l1, l2] [vR z0] h Q ↔ Rn r 40 98 [l0, l1, l2] [vL 1701606245, vR z0] h Q := Rn_nx pg40 rfl rfl
theorem sX6_close_98 (hk : hK h a1 = 15) : Rn r 40 98 [l0, l1, l2] [vL y0, vR (some a1)] h Q ↔ Cl r 36 [vR (some a1), vL y0] h (Kt r 40 101 [l0, l1, l2] [] Q) := Rn_call pg40 rfl (by simp only [am_exec, am_inv, am_pop, am_lk, hk]; rfl) pg36 rfl rfl rfl
theorem sX6_close_101 : Rn r 40 101 [l0, l1, l2] [vI x0] h Q ↔ if x0 = 0 then Rn r 40 178 [l0, l1, l2] [] h Q else Rn r 40 104 [l0, l1, l2] [] h Q := Rn_if pg40 rfl rfl rfl
theorem sX6_close_104 : Rn r 40 104 [some (vR z), l1, l2] [] h Q ↔ Rn r 40 105 [some (vR z), l1, l2] [vR z] h Q := Rn_nx pg40 rfl rfl
theorem sX6_close_105 (hk : hK h a0 = 15) : Rn r 40 105 [l0, l1, l2] [vR (some a0)] h Q ↔ Cl r 35 [vR (some a0)] h (Kt r 40 108 [l0, l1, l2] [] Q) := Rn_call pg40 rfl (by simp only [am_exec, am_inv, am_pop, am_lk, hk]; rfl) pg35 rfl rfl rfl
theorem sX6_close_108 : Rn r 40 108 [some (vR z), l1, l2] [] h Q ↔ Rn r 40 109 [some (vR z), l1, l2] [vR z] h Q := Rn_nx pg40 rfl rfl
theorem sX6_close_109 (hk : hK h a0 = 15) : Rn r 40 109 [l0, l1, l2] [vR (some a0)] h Q ↔ Rn r 40 112 [l0, l1, l2] [vR (hR h a0 28)] h Q := Rn_nx pg40 rfl (if_pos ⟨(hk ▸ Nat.le_refl _), (hk ▸ Nat.le_refl _)⟩)
theorem sX6_close_112 : Rn r 40 112 [l0, l1, some (vI x)] [vR z0] h Q ↔ Rn r 40 113 [l0, l1, some (vI x)] [vI x, vR z0] h Q := Rn_nx pg40 rfl rfl
theorem sX6_close_113 : Rn r 40 113 [some (vR z), l1, l2] [vI x0, vR z1] h Q ↔ Rn r 40 114 [some (vR z), l1, l2] [vR z, vI x0, vR z1] h Q := Rn_nx pg40 rfl rfl
theorem sX6_close_114 : Rn r 40 114 [l0, l1, l2] [vR z0, vI x1, vR z2] h Q ↔ Rn r 40 115 [l0, l1, l2] [vI 3, vR z0, vI x1, vR z2] h Q := Rn_nx pg40 rfl rfl
theorem sX6_close_115 : Rn r 40 115 [l0, l1, some (vI x)] [vI x0, vR z1, vI x2, vR z3] h Q ↔ Rn r 40 116 [l0, l1, some (vI x)] [vI x, vI x0, vR z1, vI x2, vR z3] h Q := Rn_nx pg40 rfl rfl
theorem sX6_close_116 : Rn r 40 116 [l0, l1, l2] [vI x0, vI x1, vR z2, vI x3, vR z4] h Q ↔ Rn r 40 117 [l0, l1, l2] [vI 0, vI x0, vI x1, vR z2, vI x3, vR z4] h Q := Rn_nx pg40 rfl rfl
theorem sX6_close_117 (hk : hK h a3 = 15) : Rn r 40 117 [l0, l1, l2] [vI x0, vI x1, vI x2, vR (some a3), vI x4, vR z5] h Q ↔ Cl r 91 [vR (some a3), vI x2, vI x1, vI x0] h (Kt r 40 120 [l0, l1, l2] [vI x4, vR z5] Q) := Rn_call pg40 rfl (by simp only [am_exec, am_inv, am_pop, am_lk, hk]; rfl) pg91 rfl rfl rfl
theorem sX6_close_120 (hk : hK h a2 = 40) (hx : ¬ (x1 < 0 ∨ hL h a2 ≤ x1.toNatClampNeg)) : Rn r 40 120 [l0, l1, l2] [vI x0, vI x1, vR (some a2)] h Q ↔ Rn r 40 121 [l0, l1, l2] [] (putI h a2 x1.toNatClampNeg x0) Q := Rn_nx pg40 rfl ((if_pos hk).trans (if_neg hx))
theorem sX6_close_121 : Rn r 40 121 [l0, l1, l2] [] h Q ↔ Rn r 40 178 [l0, l1, l2] [] h Q := Rn_nx pg40 rfl rfl
theorem sX6_close_124 : Rn r 40 124 [some (vR z), l1, l2] [] h Q ↔ Rn r 40 125 [some (vR z), l1, l2] [vR z] h Q := Rn_nx pg40 rfl rfl
theorem sX6_close_125 : Rn r 40 125 [l0, l1, l2] [vR z0] h Q ↔ Rn r 40 128 [l0, l1, l2] [vL 127991945328499, vR z0] h Q := Rn_nx pg40 rfl rfl
theorem sX6_close_128 (hk : hK h a1 = 15) : Rn r 40 128 [l0, l1, l2] [vL y0, vR (some a1)] h Q ↔ Cl r 36 [vR (some a1), vL y0] h (Kt r 40 131 [l0, l1, l2] [] Q) := Rn_call pg40 rfl (by simp only [am_exec, am_inv, am_pop, am_lk, hk]; rfl) pg36 rfl rfl rfl
theorem sX6_close_131 : Rn r 40 131 [l0, l1, l2] [vI x0] h Q ↔ if x0 = 0 then Rn r 40 145 [l0, l1, l2] [] h Q else Rn r 40 134 [l0, l1, l2] [] h Q := Rn_if pg40 rfl rfl rfl
theorem sX6_close_134 : Rn r 40 134 [some (vR z), l1, l2] [] h Q ↔ Rn r 40 135 [some (vR z), l1, l2] [vR z] h Q := Rn_nx pg40 rfl rfl
theorem sX6_close_135 : Rn r 40 135 [l0, l1, some (vI x)] [vR z0] h Q ↔ Rn r 40 136 [l0, l1, some (vI x)] [vI x, vR z0] h Q := Rn_nx pg40 rfl rfl
theorem sX6_close_136 : Rn r 40 136 [l0, l1, l2] [vI x0, vR z1] h Q ↔ Rn r 40 138 [l0, l1, l2] [vI 59, vI x0, vR z1] h Q := Rn_nx pg40 rfl rfl
theorem sX6_close_138 (hk : hK h a2 = 15) : Rn r 40 138 [l0, l1, l2] [vI x0, vI x1, vR (some a2)] h Q ↔ Cl r 92 [vR (some a2), vI x1, vI x0] h (Kt r 40 141 [l0, l1, l2] [] Q) := Rn_call pg40 rfl (by simp only [am_exec, am_inv, am_pop, am_lk, hk]; rfl) pg92 rfl rfl rfl
theorem sX6_close_141 : Rn r 40 141 [l0, l1, l2] [vI x0] h Q ↔ Rn r 40 142 [l0, l1, l2] [] h Q := Rn_nx pg40 rfl rfl
theorem sX6_close_142 : Rn r 40 142 [l0, l1, l2] [] h Q ↔ Rn r 40 178 [l0, l1, l2] [] h Q := Rn_nx pg40 rfl rfl
theorem sX6_close_145 : Rn r 40 145 [some (vR z), l1, l2] [] h Q ↔ Rn r 40 146 [some (vR z), l1, l2] [vR z] h Q := Rn_nx pg40 rfl rfl
theorem sX6_close_146 : Rn r 40 146 [l0, l1, l2] [vR z0] h Q ↔ Rn r 40 148 [l0, l1, l2] [vI 59, vR z0] h Q := Rn_nx pg40 rfl rfl
theorem sX6_close_148 (hk : hK h a1 = 15) : Rn r 40 148 [l0, l1, l2] [vI x0, vR (some a1)] h Q ↔ Cl r 90 [vR (some a1), vI x0] h (Kt r 40 151 [l0, l1, l2] [] Q) := Rn_call pg40 rfl (by simp only [am_exec, am_inv, am_pop, am_lk, hk]; rfl) pg90 rfl rfl rfl
theorem sX6_close_151 : Rn r 40 151 [l0, l1, l2] [vI x0] h Q ↔ Rn r 40 152 [l0, l1, l2] [] h Q := Rn_nx pg40 rfl rfl
theorem sX6_close_152 : Rn r 40 152 [l0, l1, l2] [] h Q ↔ Rn r 40 178 [l0, l1, l2] [] h Q := Rn_nx pg40 rfl rfl
theorem sX6_close_155 : Rn r 40 155 [some (vR z), l1, l2] [] h Q ↔ Rn r 40 156 [some (vR z), l1, l2] [vR z] h Q := Rn_nx pg40 rfl rfl
theorem sX6_close_156 : Rn r 40 156 [l0, l1, some (vI x)] [vR z0] h Q ↔ Rn r 40 157 [l0, l1, some (vI x)] [vI x, vR z0] h Q := Rn_nx pg40 rfl rfl
theorem sX6_close_157 : Rn r 40 157 [some (vR z), l1, l2] [vI x0, vR z1] h Q ↔ Rn r 40 158 [some (vR z), l1, l2] [vR z, vI x0, vR z1] h Q := Rn_nx pg40 rfl rfl
theorem sX6_close_158 (hk : hK h a0 = 15) : Rn r 40 158 [l0, l1, l2] [vR (some a0), vI x1, vR z2] h Q ↔ Rn r 40 161 [l0, l1, l2] [vR (hR h a0 41), vI x1, vR z2] h Q := Rn_nx pg40 rfl (if_pos ⟨(hk ▸ Nat.le_refl _), (hk ▸ Nat.le_refl _)⟩)
theorem sX6_close_161 : Rn r 40 161 [l0, some (vI x), l2] [vR z0, vI x1, vR z2] h Q ↔ Rn r 40 162 [l0, some (vI x), l2] [vI x, vR z0, vI x1, vR z2] h Q := Rn_nx pg40 rfl rfl
theorem sX6_close_162 (hk : 40 ≤ hK h a1) (hk2 : hK h a1 ≤ 41) (hx : ¬ (x0 < 0 ∨ hL h a1 ≤ x0.toNatClampNeg)) : Rn r 40 162 [l0, l1, l2] [vI x0, vR (some a1), vI x2, vR z3] h Q ↔ Rn r 40 163 [l0, l1, l2] [vI (hI h a1 x0.toNatClampNeg), vI x2, vR z3] h Q := Rn_nx pg40 rfl ((if_pos ⟨hk, hk2⟩).trans (if_neg hx))
theorem sX6_close_163 : Rn r 40 163 [l0, l1, l2] [vI x0, vI x1, vR z2] h Q ↔ Rn r 40 164 [l0, l1, l2] [vI 5, vI x0, vI x1, vR z2] h Q := Rn_nx pg40 rfl rfl
theorem sX6_close_164 : Rn r 40 164 [l0, l1, l2] [vI x0, vI x1, vI x2, vR z3] h Q ↔ if x1 ≠ x0 then Rn r 40 171 [l0, l1, l2] [vI x2, vR z3] h Q else Rn r 40 167 [l0, l1, l2] [vI x2, vR z3] h Q := Rn_if pg40 rfl rfl rfl
theorem sX6_close_167 : Rn r 40 167 [l0, l1, l2] [vI x0, vR z1] h Q ↔ Rn r 40 168 [l0, l1, l2] [vI 1, vI x0, vR z1] h Q := Rn_nx pg40 rfl rfl
theorem sX6_close_168 : Rn r 40 168 [l0, l1, l2] [vI x0, vI x1, vR z2] h Q ↔ Rn r 40 172 [l0, l1, l2] [vI x0, vI x1, vR z2] h Q := Rn_nx pg40 rfl rfl
theorem sX6_close_171 : Rn r 40 171 [l0, l1, l2] [vI x0, vR z1] h Q ↔ Rn r 40 172 [l0, l1, l2] [vI 0, vI x0, vR z1] h Q := Rn_nx pg40 rfl rfl
theorem sX6_close_172 (hk : hK h a2 = 15) : Rn r 40 172 [l0, l1, l2] [vI x0, vI x1, vR (some a2)] h Q ↔ Cl r 93 [vR (some a2), vI x1, vI x0] h (Kt r 40 175 [l0, l1, l2] [] Q) := Rn_call pg40 rfl (by simp only [am_exec, am_inv, am_pop, am_lk, hk]; rfl) pg93 rfl rfl rfl
theorem sX6_close_175 : Rn r 40 175 [l0, l1, l2] [] h Q ↔ Rn r 40 178 [l0, l1, l2] [] h Q := Rn_nx pg40 rfl rfl
theorem sX6_close_178 : Rn r 40 178 [l0, l1, l2] [] h Q ↔ Q (Sum.inl none) h := Rn_end pg40 rfl rfl
/-! 41 ThrowRulesModel.readStatement()V -/
theorem eX6_readStatement : Cl r 41 [vR z0] h Q ↔ Rn r 41 0 [some (vR z0), none, none, none, none, none] [] h Q := Cl_in pg41 rfl
theorem sX6_readStatement_0 : Rn r 41 0 [some (vR z), l1, l2, l3, l4, l5] [] h Q ↔ Rn r 41 1 [some (vR z), l1, l2, l3, l4, l5] [vR z] h Q := Rn_nx pg41 rfl rfl
theorem sX6_readStatement_1 (hk : hK h a0 = 15) : Rn r 41 1 [l0, l1, l2, l3, l4, l5] [vR (some a0)] h Q ↔ Rn r 41 4 [l0, l1, l2, l3, l4, l5] [vI (hI h a0 51)] h Q := Rn_nx pg41 rfl (if_pos ⟨(hk ▸ Nat.le_refl _), (hk ▸ Nat.le_refl _)⟩)
theorem sX6_readStatement_4 : Rn r 41 4 [l0, l1, l2, l3, l4, l5] [vI x0] h Q ↔ Rn r 41 6 [l0, l1, l2, l3, l4, l5] [vI 123, vI x0] h Q := Rn_nx pg41 rfl rfl
theorem sX6_readStatement_6 : Rn r 41 6 [l0, l1, l2, l3, l4, l5] [vI x0, vI x1] h Q ↔ if x1 = x0 then Rn r 41 119 [l0, l1, l2, l3, l4, l5] [] h Q else Rn r 41 9 [l0, l1, l2, l3, l4, l5] [] h Q := Rn_if pg41 rfl rfl rfl
theorem sX6_readStatement_9 : Rn r 41 9 [some (vR z), l1, l2, l3, l4, l5] [] h Q ↔ Rn r 41 10 [some (vR z), l1, l2, l3, l4, l5] [vR z] h Q := Rn_nx pg41 rfl rfl
theorem sX6_readStatement_10 : Rn r 41 10 [l0, l1, l2, l3, l4, l5] [vR z0] h Q ↔ Rn r 41 13 [l0, l1, l2, l3, l4, l5] [vL 25711, vR z0] h Q := Rn_nx pg41 rfl rfl
theorem sX6_readStatement_13 (hk : hK h a1 = 15) : Rn r 41 13 [l0, l1, l2, l3, l4, l5] [vL y0, vR (some a1)] h Q ↔ Cl r 36 [vR (some a1), vL y0] h (Kt r 41 16 [l0, l1, l2, l3, l4, l5] [] Q) := Rn_call pg41 rfl (by simp only [am_exec, am_inv, am_pop, am_lk, hk]; rfl) pg36 rfl rfl rfl
theorem sX6_readStatement_16 : Rn r 41 16 [l0, l1, l2, l3, l4, l5] [vI x0] h Q ↔ if x0 ≠ 0 then Rn r 41 119 [l0, l1, l2, l3, l4, l5] [] h Q else Rn r 41 19 [l0, l1, l2, l3, l4, l5] [] h Q := Rn_if pg41 rfl rfl rfl
theorem sX6_readStatement_19 : Rn r 41 19 [some (vR z), l1, l2, l3, l4, l5] [] h Q ↔ Rn r 41 20 [some (vR z), l1, l2, l3, l4, l5] [vR z] h Q := Rn_nx pg41 rfl rfl
theorem sX6_readStatement_20 : Rn r 41 20 [l0, l1, l2, l3, l4, l5] [vR z0] h Q ↔ Rn r 41 23 [l0, l1, l2, l3, l4, l5] [vL 1667329132, vR z0] h Q := Rn_nx pg41 rfl rfl
theorem sX6_readStatement_23 (hk : hK h a1 = 15) : Rn r 41 23 [l0, l1, l2, l3, l4, l5] [vL y0, vR (some a1)] h Q ↔ Cl r 36 [vR (some a1), vL y0] h (Kt r 41 26 [l0, l1, l2, l3, l4, l5] [] Q) := Rn_call pg41 rfl (by simp only [am_exec, am_inv, am_pop, am_lk, hk]; rfl) pg36 rfl rfl rfl
theorem sX6_readStatement_26 : Rn r 41 26 [l0, l1, l2, l3, l4, l5] [vI x0] h Q ↔ if x0 ≠ 0 then Rn r 41 119 [l0, l1, l2, l3, l4, l5] [] h Q else Rn r 41 29 [l0, l1, l2, l3, l4, l5] [] h Q := Rn_if pg41 rfl rfl rfl
theorem sX6_readStatement_29 : Rn r 41 29 [some (vR z), l1, l2, l3, l4, l5] [] h Q ↔ Rn r 41 30 [some (vR z), l1, l2, l3, l4, l5] [vR z] h Q := Rn_nx pg41 rfl rfl
theorem sX6_readStatement_30 : Rn r 41 30 [l0, l1, l2, l3, l4, l5] [vR z0] h Q ↔ Rn r 41 33 [l0, l1, l2, l3, l4, l5] [vL 499968536439, vR z0] h Q := Rn_nx pg41 rfl rfl
theorem sX6_readStatement_33 (hk : hK h a1 = 15) : Rn r 41 33 [l0, l1, l2, l3, l4, l5] [vL y0, vR (some a1)] h Q ↔ Cl r 36 [vR (some a1), vL y0] h (Kt r 41 36 [l0, l1, l2, l3, l4, l5] [] Q) := Rn_call pg41 rfl (by simp only [am_exec, am_inv, am_pop, am_lk, hk]; rfl) pg36 rfl rfl rfl
theorem sX6_readStatement_36 : Rn r 41 36 [l0, l1, l2, l3, l4, l5] [vI x0] h Q ↔ if x0 ≠ 0 then Rn r 41 119 [l0, l1, l2, l3, l4, l5] [] h Q else Rn r 41 39 [l0, l1, l2, l3, l4, l5] [] h Q := Rn_if pg41 rfl rfl rfl
theorem sX6_readStatement_39 : Rn r 41 39 [some (vR z), l1, l2, l3, l4, l5] [] h Q ↔ Rn r 41 40 [some (vR z), l1, l2, l3, l4, l5] [vR z] h Q := Rn_nx pg41 rfl rfl
theorem sX6_readStatement_40 : Rn r 41 40 [l0, l1, l2, l3, l4, l5] [vR z0] h Q ↔ Rn r 41 43 [l0, l1, l2, l3, l4, l5] [vL 7562612, vR z0] h Q := Rn_nx pg41 rfl rfl
theorem sX6_readStatement_43 (hk : hK h a1 = 15) : Rn r 41 43 [l0, l1, l2, l3, l4, l5] [vL y0, vR (some a1)] h Q ↔ Cl r 36 [vR (some a1), vL y0] h (Kt r 41 46 [l0, l1, l2, l3, l4, l5] [] Q) := Rn_call pg41 rfl (by simp only [am_exec, am_inv, am_pop, am_lk, hk]; rfl) pg36 rfl rfl rfl
theorem sX6_readStatement_46 : Rn r 41 46 [l0, l1, l2, l3, l4, l5] [vI x0] h Q ↔ if x0 ≠ 0 then Rn r 41 119 [l0, l1, l2, l3, l4, l5] [] h Q else Rn r 41 49 [l0, l1, l2, l3, l4, l5] [] h Q := Rn_if pg41 rfl rfl rfl
theorem sX6_readStatement_49 : Rn r 41 49 [some (vR z), l1, l2, l3, l4, l5] [] h Q ↔ Rn r 41 50 [some (vR z), l1, l2, l3, l4, l5] [vR z] h Q := Rn_nx pg41 rfl rfl
theorem sX6_readStatement_50 : Rn r 41 50 [l0, l1, l2, l3, l4, l5] [vR z0] h Q ↔ Rn r 41 53 [l0, l1, l2, l3, l4, l5] [vL 26982, vR z0] h Q := Rn_nx pg41 rfl rfl
theorem sX6_readStatement_53 (hk : hK h a1 = 15) : Rn r 41 53 [l0, l1, l2, l3, l4, l5] [vL y0, vR (some a1)] h Q ↔ Cl r 36 [vR (some a1), vL y0] h (Kt r 41 56 [l0, l1, l2, l3, l4, l5] [] Q) := Rn_call pg41 rfl (by simp only [am_exec, am_inv, am_pop, am_lk, hk]; rfl) pg36 rfl rfl rfl
theorem sX6_readStatement_56 : Rn r 41 56 [l0, l1, l2, l3, l4, l5] [vI x0] h Q ↔ if x0 ≠ 0 then Rn r 41 119 [l0, l1, l2, l3, l4, l5] [] h Q else Rn r 41 59 [l0, l1, l2, l3, l4, l5] [] h Q := Rn_if pg41 rfl rfl rfl
theorem sX6_readStatement_59 : Rn r 41 59 [some (vR z), l1, l2, l3, l4, l5] [] h Q ↔ Rn r 41 60 [some (vR z), l1, l2, l3, l4, l5] [vR z] h Q := Rn_nx pg41 rfl rfl
theorem sX6_readStatement_60 : Rn r 41 60 [l0, l1, l2, l3, l4, l5] [vR z0] h Q ↔ Rn r 41 63 [l0, l1, l2, l3, l4, l5] [vL 512852847717, vR z0] h Q := Rn_nx pg41 rfl rfl
theorem sX6_readStatement_63 (hk : hK h a1 = 15) : Rn r 41 63 [l0, l1, l2, l3, l4, l5] [vL y0, vR (some a1)] h Q ↔ Cl r 36 [vR (some a1), vL y0] h (Kt r 41 66 [l0, l1, l2, l3, l4, l5] [] Q) := Rn_call pg41 rfl (by simp only [am_exec, am_inv, am_pop, am_lk, hk]; rfl) pg36 rfl rfl rfl
theorem sX6_readStatement_66 : Rn r 41 66 [l0, l1, l2, l3, l4, l5] [vI x0] h Q ↔ if x0 ≠ 0 then Rn r 41 119 [l0, l1, l2, l3, l4, l5] [] h Q else Rn r 41 69 [l0, l1, l2, l3, l4, l5] [] h Q := Rn_if pg41 rfl rfl rfl
theorem sX6_readStatement_69 : Rn r 41 69 [some (vR z), l1, l2, l3, l4, l5] [] h Q ↔ Rn r 41 70 [some (vR z), l1, l2, l3, l4, l5] [vR z] h Q := Rn_nx pg41 rfl rfl
theorem sX6_readStatement_70 : Rn r 41 70 [l0, l1, l2, l3, l4, l5] [vR z0] h Q ↔ Rn r 41 73 [l0, l1, l2, l3, l4, l5] [vL 1819242352, vR z0] h Q := Rn_nx pg41 rfl rfl
theorem sX6_readStatement_73 (hk : hK h a1 = 15) : Rn r 41 73 [l0, l1, l2, l3, l4, l5] [vL y0, vR (some a1)] h Q ↔ Cl r 36 [vR (some a1), vL y0] h (Kt r 41 76 [l0, l1, l2, l3, l4, l5] [] Q) := Rn_call pg41 rfl (by simp only [am_exec, am_inv, am_pop, am_lk, hk]; rfl) pg36 rfl rfl rfl
theorem sX6_readStatement_76 : Rn r 41 76 [l0, l1, l2, l3, l4, l5] [vI x0] h Q ↔ if x0 ≠ 0 then Rn r 41 119 [l0, l1, l2, l3, l4, l5] [] h Q else Rn r 41 79 [l0, l1, l2, l3, l4, l5] [] h Q := Rn_if pg41 rfl rfl rfl
theorem sX6_readStatement_79 : Rn r 41 79 [some (vR z), l1, l2, l3, l4, l5] [] h Q ↔ Rn r 41 80 [some (vR z), l1, l2, l3, l4, l5] [vR z] h Q := Rn_nx pg41 rfl rfl
theorem sX6_readStatement_80 : Rn r 41 80 [l0, l1, l2, l3, l4, l5] [vR z0] h Q ↔ Rn r 41 83 [l0, l1, l2, l3, l4, l5] [vL 422826041707, vR z0] h Q := Rn_nx pg41 rfl rfl
theorem sX6_readStatement_83 (hk : hK h a1 = 15) : Rn r 41 83 [l0, l1, l2, l3, l4, l5] [vL y0, vR (some a1)] h Q ↔ Cl r 36 [vR (some a1), vL y0] h (Kt r 41 86 [l0, l1, l2, l3, l4, l5] [] Q) := Rn_call pg41 rfl (by simp only [am_exec, am_inv, am_pop, am_lk, hk]; rfl) pg36 rfl rfl rfl
theorem sX6_readStatement_86 : Rn r 41 86 [l0, l1, l2, l3, l4, l5] [vI x0] h Q ↔ if x0 ≠ 0 then Rn r 41 119 [l0, l1, l2, l3, l4, l5] [] h Q else Rn r 41 89 [l0, l1, l2, l3, l4, l5] [] h Q := Rn_if pg41 rfl rfl rfl
theorem sX6_readStatement_89 : Rn r 41 89 [some (vR z), l1, l2, l3, l4, l5] [] h Q ↔ Rn r 41 90 [some (vR z), l1, l2, l3, l4, l5] [vR z] h Q := Rn_nx pg41 rfl rfl
theorem sX6_readStatement_90 : Rn r 41 90 [l0, l1, l2, l3, l4, l5] [vR z0] h Q ↔ Rn r 41 93 [l0, l1, l2, l3, l4, l5] [vL 125780071117422, vR z0] h Q := Rn_nx pg41 rfl rfl
theorem sX6_readStatement_93 (hk : hK h a1 = 15) : Rn r 41 93 [l0, l1, l2, l3, l4, l5] [vL y0, vR (some a1)] h Q ↔ Cl r 36 [vR (some a1), vL y0] h (Kt r 41 96 [l0, l1, l2, l3, l4, l5] [] Q) := Rn_call pg41 rfl (by simp only [am_exec, am_inv, am_pop, am_lk, hk]; rfl) pg36 rfl rfl rfl
theorem sX6_readStatement_96 : Rn r 41 96 [l0, l1, l2, l3, l4, l5] [vI x0] h Q ↔ if x0 ≠ 0 then Rn r 41 119 [l0, l1, l2, l3, l4, l5] [] h Q else Rn r 41 99 [l0, l1, l2, l3, l4, l5] [] h Q := Rn_if pg41 rfl rfl rfl
theorem sX6_readStatement_99 : Rn r 41 99 [some (vR z), l1, l2, l3, l4, l5] [] h Q ↔ Rn r 41 100 [some (vR z), l1, l2, l3, l4, l5] [vR z] h Q := Rn_nx pg41 rfl rfl
theorem sX6_readStatement_100 : Rn r 41 100 [l0, l1, l2, l3, l4, l5] [vR z0] h Q ↔ Rn r 41 103 [l0, l1, l2, l3, l4, l5] [vL 7631481, vR z0] h Q := Rn_nx pg41 rfl rfl
theorem sX6_readStatement_103 (hk : hK h a1 = 15) : Rn r 41 103 [l0, l1, l2, l3, l4, l5] [vL y0, vR (some a1)] h Q ↔ Cl r 36 [vR (some a1), vL y0] h (Kt r 41 106 [l0, l1, l2, l3, l4, l5] [] Q) := Rn_call pg41 rfl (by simp only [am_exec, am_inv, am_pop, am_lk, hk]; rfl) pg36 rfl rfl rfl
theorem sX6_readStatement_106 : Rn r 41 106 [l0, l1, l2, l3, l4, l5] [vI x0] h Q ↔ if x0 ≠ 0 then Rn r 41 119 [l0, l1, l2, l3, l4, l5] [] h Q else Rn r 41 109 [l0, l1, l2, l3, l4, l5] [] h Q := Rn_if pg41 rfl rfl rfl
theorem sX6_readStatement_109 : Rn r 41 109 [some (vR z), l1, l2, l3, l4, l5] [] h Q ↔ Rn r 41 110 [some (vR z), l1, l2, l3, l4, l5] [vR z] h Q := Rn_nx pg41 rfl rfl
theorem sX6_readStatement_110 : Rn r 41 110 [l0, l1, l2, l3, l4, l5] [vR z0] h Q ↔ Rn r 41 113 [l0, l1, l2, l3, l4, l5] [vL 7501166, vR z0] h Q := Rn_nx pg41 rfl rfl
theorem sX6_readStatement_113 (hk : hK h a1 = 15) : Rn r 41 113 [l0, l1, l2, l3, l4, l5] [vL y0, vR (some a1)] h Q ↔ Cl r 36 [vR (some a1), vL y0] h (Kt r 41 116 [l0, l1, l2, l3, l4, l5] [] Q) := Rn_call pg41 rfl (by simp only [am_exec, am_inv, am_pop, am_lk, hk]; rfl) pg36 rfl rfl rfl
theorem sX6_readStatement_116 : Rn r 41 116 [l0, l1, l2, l3, l4, l5] [vI x0] h Q ↔ if x0 = 0 then Rn r 41 123 [l0, l1, l2, l3, l4, l5] [] h Q else Rn r 41 119 [l0, l1, l2, l3, l4, l5] [] h Q := Rn_if pg41 rfl rfl rfl
theorem sX6_readStatement_119 : Rn r 41 119 [l0, l1, l2, l3, l4, l5] [] h Q ↔ Rn r 41 120 [l0, l1, l2, l3, l4, l5] [vI 1] h Q := Rn_nx pg41 rfl rfl
theorem sX6_readStatement_120 : Rn r 41 120 [l0, l1, l2, l3, l4, l5] [vI x0] h Q ↔ Rn r 41 124 [l0, l1, l2, l3, l4, l5] [vI x0] h Q := Rn_nx pg41 rfl rfl
theorem sX6_readStatement_123 : Rn r 41 123 [l0, l1, l2, l3, l4, l5] [] h Q ↔ Rn r 41 124 [l0, l1, l2, l3, l4, l5] [vI 0] h Q := Rn_nx pg41 rfl rfl
theorem sX6_readStatement_124 : Rn r 41 124 [l0, l1, l2, l3, l4, l5] [vI x0] h Q ↔ Rn r 41 125 [l0, some (vI x0), l2, l3, l4, l5] [] h Q := Rn_nx pg41 rfl rfl
theorem sX6_readStatement_125 : Rn r 41 125 [l0, some (vI x), l2, l3, l4, l5] [] h Q ↔ Rn r 41 126 [l0, some (vI x), l2, l3, l4, l5] [vI x] h Q := Rn_nx pg41 rfl rfl
theorem sX6_readStatement_126 : Rn r 41 126 [l0, l1, l2, l3, l4, l5] [vI x0] h Q ↔ if x0 = 0 then Rn r 41 143 [l0, l1, l2, l3, l4, l5] [] h Q else Rn r 41 129 [l0, l1, l2, l3, l4, l5] [] h Q := Rn_if pg41 rfl rfl rfl
theorem sX6_readStatement_129 : Rn r 41 129 [some (vR z), l1, l2, l3, l4, l5] [] h Q ↔ Rn r 41 130 [some (vR z), l1, l2, l3, l4, l5] [vR z] h Q := Rn_nx pg41 rfl rfl
theorem sX6_readStatement_130 (hk : hK h a0 = 15) : Rn r 41 130 [l0, l1, l2, l3, l4, l5] [vR (some a0)] h Q ↔ Rn r 41 133 [l0, l1, l2, l3, l4, l5] [vR (hR h a0 19)] h Q := Rn_nx pg41 rfl (if_pos ⟨(hk ▸ Nat.le_refl _), (hk ▸ Nat.le_refl _)⟩)
theorem sX6_readStatement_133 : Rn r 41 133 [some (vR z), l1, l2, l3, l4, l5] [vR z0] h Q ↔ Rn r 41 134 [some (vR z), l1, l2, l3, l4, l5] [vR z, vR z0] h Q := Rn_nx pg41 rfl rfl
theorem sX6_readStatement_134 (hk : hK h a0 = 15) : Rn r 41 134 [l0, l1, l2, l3, l4, l5] [vR (some a0), vR z1] h Q ↔ Rn r 41 137 [l0, l1, l2, l3, l4, l5] [vI (hI h a0 2), vR z1] h Q := Rn_nx pg41 rfl (if_pos ⟨(hk ▸ Nat.le_refl _), (hk ▸ Nat.le_refl _)⟩)
theorem sX6_readStatement_137 (hk : 40 ≤ hK h a1) (hk2 : hK h a1 ≤ 41) (hx : ¬ (x0 < 0 ∨ hL h a1 ≤ x0.toNatClampNeg)) : Rn r 41 137 [l0, l1, l2, l3, l4, l5] [vI x0, vR (some a1)] h Q ↔ Rn r 41 138 [l0, l1, l2, l3, l4, l5] [vI (hI h a1 x0.toNatClampNeg)] h Q := Rn_nx pg41 rfl ((if_pos ⟨hk, hk2⟩).trans (if_neg hx))
theorem sX6_readStatement_138 : Rn r 41 138 [l0, l1, l2, l3, l4, l5] [vI x0] h Q ↔ Rn r 41 140 [l0, l1, l2, l3, l4, l5] [vI 120, vI x0] h Q := Rn_nx pg41 rfl rfl
theorem sX6_readStatement_140 : Rn r 41 140 [l0, l1, l2, l3, l4, l5] [vI x0, vI x1] h Q ↔ if x1 ≠ x0 then Rn r 41 149 [l0, l1, l2, l3, l4, l5] [] h Q else Rn r 41 143 [l0, l1, l2, l3, l4, l5] [] h Q := Rn_if pg41 rfl rfl rfl
theorem sX6_readStatement_143 : Rn r 41 143 [some (vR z), l1, l2, l3, l4, l5] [] h Q ↔ Rn r 41 144 [some (vR z), l1, l2, l3, l4, l5] [vR z] h Q := Rn_nx pg41 rfl rfl
theorem sX6_readStatement_144 (hk : hK h a0 = 15) : Rn r 41 144 [l0, l1, l2, l3, l4, l5] [vR (some a0)] h Q ↔ Cl r 39 [vR (some a0)] h (Kt r 41 147 [l0, l1, l2, l3, l4, l5] [] Q) := Rn_call pg41 rfl (by simp only [am_exec, am_inv, am_pop, am_lk, hk]; rfl) pg39 rfl rfl rfl
theorem sX6_readStatement_147 : Rn r 41 147 [l0, l1, l2, l3, l4, l5] [vI x0] h Q ↔ Rn r 41 148 [l0, l1, l2, l3, l4, l5] [] h Q := Rn_nx pg41 rfl rfl
theorem sX6_readStatement_148 : Rn r 41 148 [l0, l1, l2, l3, l4, l5] [] h Q ↔ Q (Sum.inl none) h := Rn_end pg41 rfl rfl
theorem sX6_readStatement_149 : Rn r 41 149 [some (vR z), l1, l2, l3, l4, l5] [] h Q ↔ Rn r 41 150 [some (vR z), l1, l2, l3, l4, l5] [vR z] h Q := Rn_nx pg41 rfl rfl
theorem sX6_readStatement_150 (hk : hK h a0 = 15) : Rn r 41 150 [l0, l1, l2, l3, l4, l5] [vR (some a0)] h Q ↔ Rn r 41 153 [l0, l1, l2, l3, l4, l5] [vI (hI h a0 2)] h Q := Rn_nx pg41 rfl (if_pos ⟨(hk ▸ Nat.le_refl _), (hk ▸ Nat.le_refl _)⟩)
theorem sX6_readStatement_153 : Rn r 41 153 [l0, l1, l2, l3, l4, l5] [vI x0] h Q ↔ Rn r 41 155 [l0, l1, l2, l3, l4, l5] [vI 120, vI x0] h Q := Rn_nx pg41 rfl rfl
theorem sX6_readStatement_155 : Rn r 41 155 [l0, l1, l2, l3, l4, l5] [vI x0, vI x1] h Q ↔ Rn r 41 156 [l0, l1, l2, l3, l4, l5] [vI (x1 * x0)] h Q := Rn_nx pg41 rfl rfl
theorem sX6_readStatement_156 : Rn r 41 156 [some (vR z), l1, l2, l3, l4, l5] [vI x0] h Q ↔ Rn r 41 157 [some (vR z), l1, l2, l3, l4, l5] [vR z, vI x0] h Q := Rn_nx pg41 rfl rfl
theorem sX6_readStatement_157 (hk : hK h a0 = 15) : Rn r 41 157 [l0, l1, l2, l3, l4, l5] [vR (some a0), vI x1] h Q ↔ Rn r 41 160 [l0, l1, l2, l3, l4, l5] [vR (hR h a0 19), vI x1] h Q := Rn_nx pg41 rfl (if_pos ⟨(hk ▸ Nat.le_refl _), (hk ▸ Nat.le_refl _)⟩)
theorem sX6_readStatement_160 : Rn r 41 160 [some (vR z), l1, l2, l3, l4, l5] [vR z0, vI x1] h Q ↔ Rn r 41 161 [some (vR z), l1, l2, l3, l4, l5] [vR z, vR z0, vI x1] h Q := Rn_nx pg41 rfl rfl
theorem sX6_readStatement_161 (hk : hK h a0 = 15) : Rn r 41 161 [l0, l1, l2, l3, l4, l5] [vR (some a0), vR z1, vI x2] h Q ↔ Rn r 41 164 [l0, l1, l2, l3, l4, l5] [vI (hI h a0 2), vR z1, vI x2] h Q := Rn_nx pg41 rfl (if_pos ⟨(hk ▸ Nat.le_refl _), (hk ▸ Nat.le_refl _)⟩)
theorem sX6_readStatement_164 (hk : 40 ≤ hK h a1) (hk2 : hK h a1 ≤ 41) (hx : ¬ (x0 < 0 ∨ hL h a1 ≤ x0.toNatClampNeg)) : Rn r 41 164 [l0, l1, l2, l3, l4, l5] [vI x0, vR (some a1), vI x2] h Q ↔ Rn r 41 165 [l0, l1, l2, l3, l4, l5] [vI (hI h a1 x0.toNatClampNeg), vI x2] h Q := Rn_nx pg41 rfl ((if_pos ⟨hk, hk2⟩).trans (if_neg hx))
theorem sX6_readStatement_165 : Rn r 41 165 [l0, l1, l2, l3, l4, l5] [vI x0, vI x1] h Q ↔ Rn r 41 166 [l0, l1, l2, l3, l4, l5] [vI (x1 + x0)] h Q := Rn_nx pg41 rfl rfl
theorem sX6_readStatement_166 : Rn r 41 166 [l0, l1, l2, l3, l4, l5] [vI x0] h Q ↔ Rn r 41 167 [l0, l1, some (vI x0), l3, l4, l5] [] h Q := Rn_nx pg41 rfl rfl
theorem sX6_readStatement_167 : Rn r 41 167 [some (vR z), l1, l2, l3, l4, l5] [] h Q ↔ Rn r 41 168 [some (vR z), l1, l2, l3, l4, l5] [vR z] h Q := Rn_nx pg41 rfl rfl
theorem sX6_readStatement_168 (hk : hK h a0 = 15) : Rn r 41 168 [l0, l1, l2, l3, l4, l5] [vR (some a0)] h Q ↔ Rn r 41 171 [l0, l1, l2, l3, l4, l5] [vR (hR h a0 56)] h Q := Rn_nx pg41 rfl (if_pos ⟨(hk ▸ Nat.le_refl _), (hk ▸ Nat.le_refl _)⟩)
theorem sX6_readStatement_171 : Rn r 41 171 [some (vR z), l1, l2, l3, l4, l5] [vR z0] h Q ↔ Rn r 41 172 [some (vR z), l1, l2, l3, l4, l5] [vR z, vR z0] h Q := Rn_nx pg41 rfl rfl
theorem sX6_readStatement_172 (hk : hK h a0 = 15) : Rn r 41 172 [l0, l1, l2, l3, l4, l5] [vR (some a0), vR z1] h Q ↔ Rn r 41 175 [l0, l1, l2, l3, l4, l5] [vI (hI h a0 55), vR z1] h Q := Rn_nx pg41 rfl (if_pos ⟨(hk ▸ Nat.le_refl _), (hk ▸ Nat.le_refl _)⟩)
theorem sX6_readStatement_175 : Rn r 41 175 [l0, l1, l2, l3, l4, l5] [vI x0, vR z1] h Q ↔ Rn r 41 176 [l0, l1, l2, l3, l4, l5] [vI 1, vI x0, vR z1] h Q := Rn_nx pg41 rfl rfl
theorem sX6_readStatement_176 : Rn r 41 176 [l0, l1, l2, l3, l4, l5] [vI x0, vI x1, vR z2] h Q ↔ Rn r 41 177 [l0, l1, l2, l3, l4, l5] [vI (x1 - x0), vR z2] h Q := Rn_nx pg41 rfl rfl
theorem sX6_readStatement_177 (hk : 40 ≤ hK h a1) (hk2 : hK h a1 ≤ 41) (hx : ¬ (x0 < 0 ∨ hL h a1 ≤ x0.toNatClampNeg)) : Rn r 41 177 [l0, l1, l2, l3, l4, l5] [vI x0, vR (some a1)] h Q ↔ Rn r 41 178 [l0, l1, l2, l3, l4, l5] [vI (hI h a1 x0.toNatClampNeg)] h Q := Rn_nx pg41 rfl ((if_pos ⟨hk, hk2⟩).trans (if_neg hx))
theorem sX6_readStatement_178 : Rn r 41 178 [l0, l1, l2, l3, l4, l5] [vI x0] h Q ↔ Rn r 41 179 [l0, l1, l2, some (vI x0), l4, l5] [] h Q := Rn_nx pg41 rfl rfl
theorem sX6_readStatement_179 : Rn r 41 179 [some (vR z), l1, l2, l3, l4, l5] [] h Q ↔ Rn r 41 180 [some (vR z), l1, l2, l3, l4, l5] [vR z] h Q := Rn_nx pg41 rfl rfl
theorem sX6_readStatement_180 (hk : hK h a0 = 15) : Rn r 41 180 [l0, l1, l2, l3, l4, l5] [vR (some a0)] h Q ↔ Rn r 41 183 [l0, l1, l2, l3, l4, l5] [vR (hR h a0 19)] h Q := Rn_nx pg41 rfl (if_pos ⟨(hk ▸ Nat.le_refl _), (hk ▸ Nat.le_refl _)⟩)
theorem sX6_readStatement_183 : Rn r 41 183 [some (vR z), l1, l2, l3, l4, l5] [vR z0] h Q ↔ Rn r 41 184 [some (vR z), l1, l2, l3, l4, l5] [vR z, vR z0] h Q := Rn_nx pg41 rfl rfl
theorem sX6_readStatement_184 (hk : hK h a0 = 15) : Rn r 41 184 [l0, l1, l2, l3, l4, l5] [vR (some a0), vR z1] h Q ↔ Rn r 41 187 [l0, l1, l2, l3, l4, l5] [vI (hI h a0 2), vR z1] h Q := Rn_nx pg41 rfl (if_pos ⟨(hk ▸ Nat.le_refl _), (hk ▸ Nat.le_refl _)⟩)
theorem sX6_readStatement_187 : Rn r 41 187 [l0, l1, l2, l3, l4, l5] [vI x0, vR z1] h Q ↔ Rn r 41 188 [l0, l1, l2, l3, l4, l5] [vI x0, vR z1, vI x0, vR z1] h Q := Rn_nx pg41 rfl rfl
theorem sX6_readStatement_188 (hk : 40 ≤ hK h a1) (hk2 : hK h a1 ≤ 41) (hx : ¬ (x0 < 0 ∨ hL h a1 ≤ x0.toNatClampNeg)) : Rn r 41 188 [l0, l1, l2, l3, l4, l5] [vI x0, vR (some a1), vI x2, vR z3] h Q ↔ Rn r 41 189 [l0, l1, l2, l3, l4, l5] [vI (hI h a1 x0.toNatClampNeg), vI x2, vR z3] h Q := Rn_nx pg41 rfl ((if_pos ⟨hk, hk2⟩).trans (if_neg hx))
theorem sX6_readStatement_189 : Rn r 41 189 [l0, l1, l2, l3, l4, l5] [vI x0, vI x1, vR z2] h Q ↔ Rn r 41 190 [l0, l1, l2, l3, l4, l5] [vI 1, vI x0, vI x1, vR z2] h Q := Rn_nx pg41 rfl rfl
theorem sX6_readStatement_190 : Rn r 41 190 [l0, l1, l2, l3, l4, l5] [vI x0, vI x1, vI x2, vR z3] h Q ↔ Rn r 41 191 [l0, l1, l2, l3, l4, l5] [vI (x1 + x0), vI x2, vR z3] h Q := Rn_nx pg41 rfl rfl
theorem sX6_readStatement_191 (hk : hK h a2 = 40) (hx : ¬ (x1 < 0 ∨ hL h a2 ≤ x1.toNatClampNeg)) : Rn r 41 191 [l0, l1, l2, l3, l4, l5] [vI x0, vI x1, vR (some a2)] h Q ↔ Rn r 41 192 [l0, l1, l2, l3, l4, l5] [] (putI h a2 x1.toNatClampNeg x0) Q := Rn_nx pg41 rfl ((if_pos hk).trans (if_neg hx))
theorem sX6_readStatement_192 : Rn r 41 192 [some (vR z), l1, l2, l3, l4, l5] [] h Q ↔ Rn r 41 193 [some (vR z), l1, l2, l3, l4, l5] [vR z] h Q := Rn_nx pg41 rfl rfl
theorem sX6_readStatement_193 (hk : hK h a0 = 15) : Rn r 41 193 [l0, l1, l2, l3, l4, l5] [vR (some a0)] h Q ↔ Rn r 41 196 [l0, l1, l2, l3, l4, l5] [vR (hR h a0 21)] h Q := Rn_nx pg41 rfl (if_pos ⟨(hk ▸ Nat.le_refl _), (hk ▸ Nat.le_refl _)⟩)
theorem sX6_readStatement_196 : Rn r 41 196 [l0, l1, some (vI x), l3, l4, l5] [vR z0] h Q ↔ Rn r 41 197 [l0, l1, some (vI x), l3, l4, l5] [vI x, vR z0] h Q := Rn_nx pg41 rfl rfl
theorem sX6_readStatement_197 : Rn r 41 197 [some (vR z), l1, l2, l3, l4, l5] [vI x0, vR z1] h Q ↔ Rn r 41 198 [some (vR z), l1, l2, l3, l4, l5] [vR z, vI x0, vR z1] h Q := Rn_nx pg41 rfl rfl
theorem sX6_readStatement_198 (hk : hK h a0 = 15) : Rn r 41 198 [l0, l1, l2, l3, l4, l5] [vR (some a0), vI x1, vR z2] h Q ↔ Rn r 41 201 [l0, l1, l2, l3, l4, l5] [vI (hI h a0 49), vI x1, vR z2] h Q := Rn_nx pg41 rfl (if_pos ⟨(hk ▸ Nat.le_refl _), (hk ▸ Nat.le_refl _)⟩)
theorem sX6_readStatement_201 (hk : hK h a2 = 40) (hx : ¬ (x1 < 0 ∨ hL h a2 ≤ x1.toNatClampNeg)) : Rn r 41 201 [l0, l1, l2, l3, l4, l5] [vI x0, vI x1, vR (some a2)] h Q ↔ Rn r 41 202 [l0, l1, l2, l3, l4, l5] [] (putI h a2 x1.toNatClampNeg x0) Q := Rn_nx pg41 rfl ((if_pos hk).trans (if_neg hx))
theorem sX6_readStatement_202 : Rn r 41 202 [some (vR z), l1, l2, l3, l4, l5] [] h Q ↔ Rn r 41 203 [some (vR z), l1, l2, l3, l4, l5] [vR z] h Q := Rn_nx pg41 rfl rfl
theorem sX6_readStatement_203 (hk : hK h a0 = 15) : Rn r 41 203 [l0, l1, l2, l3, l4, l5] [vR (some a0)] h Q ↔ Rn r 41 206 [l0, l1, l2, l3, l4, l5] [vR (hR h a0 22)] h Q := Rn_nx pg41 rfl (if_pos ⟨(hk ▸ Nat.le_refl _), (hk ▸ Nat.le_refl _)⟩)
theorem sX6_readStatement_206 : Rn r 41 206 [l0, l1, some (vI x), l3, l4, l5] [vR z0] h Q ↔ Rn r 41 207 [l0, l1, some (vI x), l3, l4, l5] [vI x, vR z0] h Q := Rn_nx pg41 rfl rfl
theorem sX6_readStatement_207 : Rn r 41 207 [l0, l1, l2, some (vI x), l4, l5] [vI x0, vR z1] h Q ↔ Rn r 41 208 [l0, l1, l2, some (vI x), l4, l5] [vI x, vI x0, vR z1] h Q := Rn_nx pg41 rfl rfl
theorem sX6_readStatement_208 (hk : hK h a2 = 40) (hx : ¬ (x1 < 0 ∨ hL h a2 ≤ x1.toNatClampNeg)) : Rn r 41 208 [l0, l1, l2, l3, l4, l5] [vI x0, vI x1, vR (some a2)] h Q ↔ Rn r 41 209 [l0, l1, l2, l3, l4, l5] [] (putI h a2 x1.toNatClampNeg x0) Q := Rn_nx pg41 rfl ((if_pos hk).trans (if_neg hx))
theorem sX6_readStatement_209 : Rn r 41 209 [some (vR z), l1, l2, l3, l4, l5] [] h Q ↔ Rn r 41 210 [some (vR z), l1, l2, l3, l4, l5] [vR z] h Q := Rn_nx pg41 rfl rfl
theorem sX6_readStatement_210 (hk : hK h a0 = 15) : Rn r 41 210 [l0, l1, l2, l3, l4, l5] [vR (some a0)] h Q ↔ Rn r 41 213 [l0, l1, l2, l3, l4, l5] [vR (hR h a0 23)] h Q := Rn_nx pg41 rfl (if_pos ⟨(hk ▸ Nat.le_refl _), (hk ▸ Nat.le_refl _)⟩)
theorem sX6_readStatement_213 : Rn r 41 213 [l0, l1, some (vI x), l3, l4, l5] [vR z0] h Q ↔ Rn r 41 214 [l0, l1, some (vI x), l3, l4, l5] [vI x, vR z0] h Q := Rn_nx pg41 rfl rfl
theorem sX6_readStatement_214 : Rn r 41 214 [some (vR z), l1, l2, l3, l4, l5] [vI x0, vR z1] h Q ↔ Rn r 41 215 [some (vR z), l1, l2, l3, l4, l5] [vR z, vI x0, vR z1] h Q := Rn_nx pg41 rfl rfl
theorem sX6_readStatement_215 (hk : hK h a0 = 15) : Rn r 41 215 [l0, l1, l2, l3, l4, l5] [vR (some a0), vI x1, vR z2] h Q ↔ Rn r 41 218 [l0, l1, l2, l3, l4, l5] [vR (hR h a0 9), vI x1, vR z2] h Q := Rn_nx pg41 rfl (if_pos ⟨(hk ▸ Nat.le_refl _), (hk ▸ Nat.le_refl _)⟩)
theorem sX6_readStatement_218 : Rn r 41 218 [some (vR z), l1, l2, l3, l4, l5] [vR z0, vI x1, vR z2] h Q ↔ Rn r 41 219 [some (vR z), l1, l2, l3, l4, l5] [vR z, vR z0, vI x1, vR z2] h Q := Rn_nx pg41 rfl rfl
theorem sX6_readStatement_219 (hk : hK h a0 = 15) : Rn r 41 219 [l0, l1, l2, l3, l4, l5] [vR (some a0), vR z1, vI x2, vR z3] h Q ↔ Rn r 41 222 [l0, l1, l2, l3, l4, l5] [vI (hI h a0 2), vR z1, vI x2, vR z3] h Q := Rn_nx pg41 rfl (if_pos ⟨(hk ▸ Nat.le_refl _), (hk ▸ Nat.le_refl _)⟩)
theorem sX6_readStatement_222 (hk : 40 ≤ hK h a1) (hk2 : hK h a1 ≤ 41) (hx : ¬ (x0 < 0 ∨ hL h a1 ≤ x0.toNatClampNeg)) : Rn r 41 222 [l0, l1, l2, l3, l4, l5] [vI x0, vR (some a1), vI x2, vR z3] h Q ↔ Rn r 41 223 [l0, l1, l2, l3, l4, l5] [vI (hI h a1 x0.toNatClampNeg), vI x2, vR z3] h Q := Rn_nx pg41 rfl ((if_pos ⟨hk, hk2⟩).trans (if_neg hx))
theorem sX6_readStatement_223 : Rn r 41 223 [l0, l1, l2, l3, l4, l5] [vI x0, vI x1, vR z2] h Q ↔ Rn r 41 224 [l0, l1, l2, l3, l4, l5] [vI 1, vI x0, vI x1, vR z2] h Q := Rn_nx pg41 rfl rfl
theorem sX6_readStatement_224 : Rn r 41 224 [l0, l1, l2, l3, l4, l5] [vI x0, vI x1, vI x2, vR z3] h Q ↔ Rn r 41 225 [l0, l1, l2, l3, l4, l5] [vI (x1 - x0), vI x2, vR z3] h Q := Rn_nx pg41 rfl rfl
theorem sX6_readStatement_225 (hk : hK h a2 = 40) (hx : ¬ (x1 < 0 ∨ hL h a2 ≤ x1.toNatClampNeg)) : Rn r 41 225 [l0, l1, l2, l3, l4, l5] [vI x0, vI x1, vR (some a2)] h Q ↔ Rn r 41 226 [l0, l1, l2, l3, l4, l5] [] (putI h a2 x1.toNatClampNeg x0) Q := Rn_nx pg41 rfl ((if_pos hk).trans (if_neg hx))
theorem sX6_readStatement_226 : Rn r 41 226 [some (vR z), l1, l2, l3, l4, l5] [] h Q ↔ Rn r 41 227 [some (vR z), l1, l2, l3, l4, l5] [vR z] h Q := Rn_nx pg41 rfl rfl
theorem sX6_readStatement_227 (hk : hK h a0 = 15) : Rn r 41 227 [l0, l1, l2, l3, l4, l5] [vR (some a0)] h Q ↔ Rn r 41 230 [l0, l1, l2, l3, l4, l5] [vR (hR h a0 24)] h Q := Rn_nx pg41 rfl (if_pos ⟨(hk ▸ Nat.le_refl _), (hk ▸ Nat.le_refl _)⟩)
theorem sX6_readStatement_230 : Rn r 41 230 [l0, l1, some (vI x), l3, l4, l5] [vR z0] h Q ↔ Rn r 41 231 [l0, l1, some (vI x), l3, l4, l5] [vI x, vR z0] h Q := Rn_nx pg41 rfl rfl
theorem sX6_readStatement_231 : Rn r 41 231 [l0, l1, l2, l3, l4, l5] [vI x0, vR z1] h Q ↔ Rn r 41 232 [l0, l1, l2, l3, l4, l5] [vI (-1), vI x0, vR z1] h Q := Rn_nx pg41 rfl rfl
theorem sX6_readStatement_232 (hk : hK h a2 = 40) (hx : ¬ (x1 < 0 ∨ hL h a2 ≤ x1.toNatClampNeg)) : Rn r 41 232 [l0, l1, l2, l3, l4, l5] [vI x0, vI x1, vR (some a2)] h Q ↔ Rn r 41 233 [l0, l1, l2, l3, l4, l5] [] (putI h a2 x1.toNatClampNeg x0) Q := Rn_nx pg41 rfl ((if_pos hk).trans (if_neg hx))
theorem sX6_readStatement_233 : Rn r 41 233 [some (vR z), l1, l2, l3, l4, l5] [] h Q ↔ Rn r 41 234 [some (vR z), l1, l2, l3, l4, l5] [vR z] h Q := Rn_nx pg41 rfl rfl
theorem sX6_readStatement_234 (hk : hK h a0 = 15) : Rn r 41 234 [l0, l1, l2, l3, l4, l5] [vR (some a0)] h Q ↔ Rn r 41 237 [l0, l1, l2, l3, l4, l5] [vR (hR h a0 25)] h Q := Rn_nx pg41 rfl (if_pos ⟨(hk ▸ Nat.le_refl _), (hk ▸ Nat.le_refl _)⟩)
theorem sX6_readStatement_237 : Rn r 41 237 [l0, l1, some (vI x), l3, l4, l5] [vR z0] h Q ↔ Rn r 41 238 [l0, l1, some (vI x), l3, l4, l5] [vI x, vR z0] h Q := Rn_nx pg41 rfl rfl
theorem sX6_readStatement_238 : Rn r 41 238 [l0, l1, l2, l3, l4, l5] [vI x0, vR z1] h Q ↔ Rn r 41 239 [l0, l1, l2, l3, l4, l5] [vL 0, vI x0, vR z1] h Q := Rn_nx pg41 rfl rfl
theorem sX6_readStatement_239 (hk : hK h a2 = 42) (hx : ¬ (x1 < 0 ∨ hL h a2 ≤ x1.toNatClampNeg)) : Rn r 41 239 [l0, l1, l2, l3, l4, l5] [vL y0, vI x1, vR (some a2)] h Q ↔ Rn r 41 240 [l0, l1, l2, l3, l4, l5] [] (putJ h a2 x1.toNatClampNeg y0) Q := Rn_nx pg41 rfl ((if_pos hk).trans (if_neg hx))
theorem sX6_readStatement_240 : Rn r 41 240 [some (vR z), l1, l2, l3, l4, l5] [] h Q ↔ Rn r 41 241 [some (vR z), l1, l2, l3, l4, l5] [vR z] h Q := Rn_nx pg41 rfl rfl
theorem sX6_readStatement_241 (hk : hK h a0 = 15) : Rn r 41 241 [l0, l1, l2, l3, l4, l5] [vR (some a0)] h Q ↔ Rn r 41 244 [l0, l1, l2, l3, l4, l5] [vR (hR h a0 27)] h Q := Rn_nx pg41 rfl (if_pos ⟨(hk ▸ Nat.le_refl _), (hk ▸ Nat.le_refl _)⟩)
theorem sX6_readStatement_244 : Rn r 41 244 [l0, l1, some (vI x), l3, l4, l5] [vR z0] h Q ↔ Rn r 41 245 [l0, l1, some (vI x), l3, l4, l5] [vI x, vR z0] h Q := Rn_nx pg41 rfl rfl
theorem sX6_readStatement_245 : Rn r 41 245 [l0, l1, l2, l3, l4, l5] [vI x0, vR z1] h Q ↔ Rn r 41 246 [l0, l1, l2, l3, l4, l5] [vI (-1), vI x0, vR z1] h Q := Rn_nx pg41 rfl rfl
theorem sX6_readStatement_246 (hk : hK h a2 = 40) (hx : ¬ (x1 < 0 ∨ hL h a2 ≤ x1.toNatClampNeg)) : Rn r 41 246 [l0, l1, l2, l3, l4, l5] [vI x0, vI x1, vR (some a2)] h Q ↔ Rn r 41 247 [l0, l1, l2, l3, l4, l5] [] (putI h a2 x1.toNatClampNeg x0) Q := Rn_nx pg41 rfl ((if_pos hk).trans (if_neg hx))
theorem sX6_readStatement_247 : Rn r 41 247 [some (vR z), l1, l2, l3, l4, l5] [] h Q ↔ Rn r 41 248 [some (vR z), l1, l2, l3, l4, l5] [vR z] h Q := Rn_nx pg41 rfl rfl
theorem sX6_readStatement_248 (hk : hK h a0 = 15) : Rn r 41 248 [l0, l1, l2, l3, l4, l5] [vR (some a0)] h Q ↔ Rn r 41 251 [l0, l1, l2, l3, l4, l5] [vR (hR h a0 28)] h Q := Rn_nx pg41 rfl (if_pos ⟨(hk ▸ Nat.le_refl _), (hk ▸ Nat.le_refl _)⟩)
theorem sX6_readStatement_251 : Rn r 41 251 [l0, l1, some (vI x), l3, l4, l5] [vR z0] h Q ↔ Rn r 41 252 [l0, l1, some (vI x), l3, l4, l5] [vI x, vR z0] h Q := Rn_nx pg41 rfl rfl
theorem sX6_readStatement_252 : Rn r 41 252 [l0, l1, l2, l3, l4, l5] [vI x0, vR z1] h Q ↔ Rn r 41 253 [l0, l1, l2, l3, l4, l5] [vI (-1), vI x0, vR z1] h Q := Rn_nx pg41 rfl rfl
theorem sX6_readStatement_253 (hk : hK h a2 = 40) (hx : ¬ (x1 < 0 ∨ hL h a2 ≤ x1.toNatClampNeg)) : Rn r 41 253 [l0, l1, l2, l3, l4, l5] [vI x0, vI x1, vR (some a2)] h Q ↔ Rn r 41 254 [l0, l1, l2, l3, l4, l5] [] (putI h a2 x1.toNatClampNeg x0) Q := Rn_nx pg41 rfl ((if_pos hk).trans (if_neg hx))
theorem sX6_readStatement_254 : Rn r 41 254 [some (vR z), l1, l2, l3, l4, l5] [] h Q ↔ Rn r 41 255 [some (vR z), l1, l2, l3, l4, l5] [vR z] h Q := Rn_nx pg41 rfl rfl
theorem sX6_readStatement_255 (hk : hK h a0 = 15) : Rn r 41 255 [l0, l1, l2, l3, l4, l5] [vR (some a0)] h Q ↔ Rn r 41 258 [l0, l1, l2, l3, l4, l5] [vR (hR h a0 29)] h Q := Rn_nx pg41 rfl (if_pos ⟨(hk ▸ Nat.le_refl _), (hk ▸ Nat.le_refl _)⟩)
theorem sX6_readStatement_258 : Rn r 41 258 [l0, l1, some (vI x), l3, l4, l5] [vR z0] h Q ↔ Rn r 41 259 [l0, l1, some (vI x), l3, l4, l5] [vI x, vR z0] h Q := Rn_nx pg41 rfl rfl
theorem sX6_readStatement_259 : Rn r 41 259 [l0, l1, l2, l3, l4, l5] [vI x0, vR z1] h Q ↔ Rn r 41 260 [l0, l1, l2, l3, l4, l5] [vI (-1), vI x0, vR z1] h Q := Rn_nx pg41 rfl rfl
theorem sX6_readStatement_260 (hk : hK h a2 = 40) (hx : ¬ (x1 < 0 ∨ hL h a2 ≤ x1.toNatClampNeg)) : Rn r 41 260 [l0, l1, l2, l3, l4, l5] [vI x0, vI x1, vR (some a2)] h Q ↔ Rn r 41 261 [l0, l1, l2, l3, l4, l5] [] (putI h a2 x1.toNatClampNeg x0) Q := Rn_nx pg41 rfl ((if_pos hk).trans (if_neg hx))
theorem sX6_readStatement_261 : Rn r 41 261 [some (vR z), l1, l2, l3, l4, l5] [] h Q ↔ Rn r 41 262 [some (vR z), l1, l2, l3, l4, l5] [vR z] h Q := Rn_nx pg41 rfl rfl
theorem sX6_readStatement_262 (hk : hK h a0 = 15) : Rn r 41 262 [l0, l1, l2, l3, l4, l5] [vR (some a0)] h Q ↔ Rn r 41 265 [l0, l1, l2, l3, l4, l5] [vR (hR h a0 30)] h Q := Rn_nx pg41 rfl (if_pos ⟨(hk ▸ Nat.le_refl _), (hk ▸ Nat.le_refl _)⟩)
theorem sX6_readStatement_265 : Rn r 41 265 [l0, l1, some (vI x), l3, l4, l5] [vR z0] h Q ↔ Rn r 41 266 [l0, l1, some (vI x), l3, l4, l5] [vI x, vR z0] h Q := Rn_nx pg41 rfl rfl
theorem sX6_readStatement_266 : Rn r 41 266 [l0, l1, l2, l3, l4, l5] [vI x0, vR z1] h Q ↔ Rn r 41 267 [l0, l1, l2, l3, l4, l5] [vI 0, vI x0, vR z1] h Q := Rn_nx pg41 rfl rfl
theorem sX6_readStatement_267 (hk : hK h a2 = 40) (hx : ¬ (x1 < 0 ∨ hL h a2 ≤ x1.toNatClampNeg)) : Rn r 41 267 [l0, l1, l2, l3, l4, l5] [vI x0, vI x1, vR (some a2)] h Q ↔ Rn r 41 268 [l0, l1, l2, l3, l4, l5] [] (putI h a2 x1.toNatClampNeg x0) Q := Rn_nx pg41 rfl ((if_pos hk).trans (if_neg hx))
theorem sX6_readStatement_268 : Rn r 41 268 [some (vR z), l1, l2, l3, l4, l5] [] h Q ↔ Rn r 41 269 [some (vR z), l1, l2, l3, l4, l5] [vR z] h Q := Rn_nx pg41 rfl rfl
theorem sX6_readStatement_269 (hk : hK h a0 = 15) : Rn r 41 269 [l0, l1, l2, l3, l4, l5] [vR (some a0)] h Q ↔ Rn r 41 272 [l0, l1, l2, l3, l4, l5] [vR (hR h a0 33)] h Q := Rn_nx pg41 rfl (if_pos ⟨(hk ▸ Nat.le_refl _), (hk ▸ Nat.le_refl _)⟩)
theorem sX6_readStatement_272 : Rn r 41 272 [l0, l1, some (vI x), l3, l4, l5] [vR z0] h Q ↔ Rn r 41 273 [l0, l1, some (vI x), l3, l4, l5] [vI x, vR z0] h Q := Rn_nx pg41 rfl rfl
theorem sX6_readStatement_273 : Rn r 41 273 [l0, l1, l2, l3, l4, l5] [vI x0, vR z1] h Q ↔ Rn r 41 274 [l0, l1, l2, l3, l4, l5] [vI 0, vI x0, vR z1] h Q := Rn_nx pg41 rfl rfl
theorem sX6_readStatement_274 (hk : hK h a2 = 40) (hx : ¬ (x1 < 0 ∨ hL h a2 ≤ x1.toNatClampNeg)) : Rn r 41 274 [l0, l1, l2, l3, l4, l5] [vI x0, vI x1, vR (some a2)] h Q ↔ Rn r 41 275 [l0, l1, l2, l3, l4, l5] [] (putI h a2 x1.toNatClampNeg x0) Q := Rn_nx pg41 rfl ((if_pos hk).trans (if_neg hx))
theorem sX6_readStatement_275 : Rn r 41 275 [some (vR z), l1, l2, l3, l4, l5] [] h Q ↔ Rn r 41 276 [some (vR z), l1, l2, l3, l4, l5] [vR z] h Q := Rn_nx pg41 rfl rfl
theorem sX6_readStatement_276 (hk : hK h a0 = 15) : Rn r 41 276 [l0, l1, l2, l3, l4, l5] [vR (some a0)] h Q ↔ Rn r 41 279 [l0, l1, l2, l3, l4, l5] [vR (hR h a0 46)] h Q := Rn_nx pg41 rfl (if_pos ⟨(hk ▸ Nat.le_refl _), (hk ▸ Nat.le_refl _)⟩)
theorem sX6_readStatement_279 : Rn r 41 279 [l0, l1, l2, some (vI x), l4, l5] [vR z0] h Q ↔ Rn r 41 280 [l0, l1, l2, some (vI x), l4, l5] [vI x, vR z0] h Q := Rn_nx pg41 rfl rfl
theorem sX6_readStatement_280 (hk : 40 ≤ hK h a1) (hk2 : hK h a1 ≤ 41) (hx : ¬ (x0 < 0 ∨ hL h a1 ≤ x0.toNatClampNeg)) : Rn r 41 280 [l0, l1, l2, l3, l4, l5] [vI x0, vR (some a1)] h Q ↔ Rn r 41 281 [l0, l1, l2, l3, l4, l5] [vI (hI h a1 x0.toNatClampNeg)] h Q := Rn_nx pg41 rfl ((if_pos ⟨hk, hk2⟩).trans (if_neg hx))
theorem sX6_readStatement_281 : Rn r 41 281 [l0, l1, l2, l3, l4, l5] [vI x0] h Q ↔ Rn r 41 282 [l0, l1, l2, l3, l4, l5] [vI (-1), vI x0] h Q := Rn_nx pg41 rfl rfl
theorem sX6_readStatement_282 : Rn r 41 282 [l0, l1, l2, l3, l4, l5] [vI x0, vI x1] h Q ↔ if x1 ≠ x0 then Rn r 41 295 [l0, l1, l2, l3, l4, l5] [] h Q else Rn r 41 285 [l0, l1, l2, l3, l4, l5] [] h Q := Rn_if pg41 rfl rfl rfl
theorem sX6_readStatement_285 : Rn r 41 285 [some (vR z), l1, l2, l3, l4, l5] [] h Q ↔ Rn r 41 286 [some (vR z), l1, l2, l3, l4, l5] [vR z] h Q := Rn_nx pg41 rfl rfl
theorem sX6_readStatement_286 (hk : hK h a0 = 15) : Rn r 41 286 [l0, l1, l2, l3, l4, l5] [vR (some a0)] h Q ↔ Rn r 41 289 [l0, l1, l2, l3, l4, l5] [vR (hR h a0 45)] h Q := Rn_nx pg41 rfl (if_pos ⟨(hk ▸ Nat.le_refl _), (hk ▸ Nat.le_refl _)⟩)
theorem sX6_readStatement_289 : Rn r 41 289 [l0, l1, l2, some (vI x), l4, l5] [vR z0] h Q ↔ Rn r 41 290 [l0, l1, l2, some (vI x), l4, l5] [vI x, vR z0] h Q := Rn_nx pg41 rfl rfl
theorem sX6_readStatement_290 : Rn r 41 290 [l0, l1, some (vI x), l3, l4, l5] [vI x0, vR z1] h Q ↔ Rn r 41 291 [l0, l1, some (vI x), l3, l4, l5] [vI x, vI x0, vR z1] h Q := Rn_nx pg41 rfl rfl
theorem sX6_readStatement_291 (hk : hK h a2 = 40) (hx : ¬ (x1 < 0 ∨ hL h a2 ≤ x1.toNatClampNeg)) : Rn r 41 291 [l0, l1, l2, l3, l4, l5] [vI x0, vI x1, vR (some a2)] h Q ↔ Rn r 41 292 [l0, l1, l2, l3, l4, l5] [] (putI h a2 x1.toNatClampNeg x0) Q := Rn_nx pg41 rfl ((if_pos hk).trans (if_neg hx))
theorem sX6_readStatement_292 : Rn r 41 292 [l0, l1, l2, l3, l4, l5] [] h Q ↔ Rn r 41 307 [l0, l1, l2, l3, l4, l5] [] h Q := Rn_nx pg41 rfl rfl
theorem sX6_readStatement_295 : Rn r 41 295 [some (vR z), l1, l2, l3, l4, l5] [] h Q ↔ Rn r 41 296 [some (vR z), l1, l2, l3, l4, l5] [vR z] h Q := Rn_nx pg41 rfl rfl
theorem sX6_readStatement_296 (hk : hK h a0 = 15) : Rn r 41 296 [l0, l1, l2, l3, l4, l5] [vR (some a0)] h Q ↔ Rn r 41 299 [l0, l1, l2, l3, l4, l5] [vR (hR h a0 24)] h Q := Rn_nx pg41 rfl (if_pos ⟨(hk ▸ Nat.le_refl _), (hk ▸ Nat.le_refl _)⟩)
theorem sX6_readStatement_299 : Rn r 41 299 [some (vR z), l1, l2, l3, l4, l5] [vR z0] h Q ↔ Rn r 41 300 [some (vR z), l1, l2, l3, l4, l5] [vR z, vR z0] h Q := Rn_nx pg41 rfl rfl
theorem sX6_readStatement_300 (hk : hK h a0 = 15) : Rn r 41 300 [l0, l1, l2, l3, l4, l5] [vR (some a0), vR z1] h Q ↔ Rn r 41 303 [l0, l1, l2, l3, l4, l5] [vR (hR h a0 46), vR z1] h Q := Rn_nx pg41 rfl (if_pos ⟨(hk ▸ Nat.le_refl _), (hk ▸ Nat.le_refl _)⟩)
theorem sX6_readStatement_303 : Rn r 41 303 [l0, l1, l2, some (vI x), l4, l5] [vR z0, vR z1] h Q ↔ Rn r 41 304 [l0, l1, l2, some (vI x), l4, l5] [vI x, vR z0, vR z1] h Q := Rn_nx pg41 rfl rfl
theorem sX6_readStatement_304 (hk : 40 ≤ hK h a1) (hk2 : hK h a1 ≤ 41) (hx : ¬ (x0 < 0 ∨ hL h a1 ≤ x0.toNatClampNeg)) : Rn r 41 304 [l0, l1, l2, l3, l4, l5] [vI x0, vR (some a1), vR z2] h Q ↔ Rn r 41 305 [l0, l1, l2, l3, l4, l5] [vI (hI h a1 x0.toNatClampNeg), vR z2] h Q := Rn_nx pg41 rfl ((if_pos ⟨hk, hk2⟩).trans (if_neg hx))
theorem sX6_readStatement_305 : Rn r 41 305 [l0, l1, some (vI x), l3, l4, l5] [vI x0, vR z1] h Q ↔ Rn r 41 306 [l0, l1, some (vI x), l3, l4, l5] [vI x, vI x0, vR z1] h Q := Rn_nx pg41 rfl rfl
theorem sX6_readStatement_306 (hk : hK h a2 = 40) (hx : ¬ (x1 < 0 ∨ hL h a2 ≤ x1.toNatClampNeg)) : Rn r 41 306 [l0, l1, l2, l3, l4, l5] [vI x0, vI x1, vR (some a2)] h Q ↔ Rn r 41 307 [l0, l1, l2, l3, l4, l5] [] (putI h a2 x1.toNatClampNeg x0) Q := Rn_nx pg41 rfl ((if_pos hk).trans (if_neg hx))
theorem sX6_readStatement_307 : Rn r 41 307 [some (vR z), l1, l2, l3, l4, l5] [] h Q ↔ Rn r 41 308 [some (vR z), l1, l2, l3, l4, l5] [vR z] h Q := Rn_nx pg41 rfl rfl
theorem sX6_readStatement_308 (hk : hK h a0 = 15) : Rn r 41 308 [l0, l1, l2, l3, l4, l5] [vR (some a0)] h Q ↔ Rn r 41 311 [l0, l1, l2, l3, l4, l5] [vR (hR h a0 46)] h Q := Rn_nx pg41 rfl (if_pos ⟨(hk ▸ Nat.le_refl _), (hk ▸ Nat.le_refl _)⟩)
theorem sX6_readStatement_311 : Rn r 41 311 [l0, l1, l2, some (vI x), l4, l5] [vR z0] h Q ↔ Rn r 41 312 [l0, l1, l2, some (vI x), l4, l5] [vI x, vR z0] h Q := Rn_nx pg41 rfl rfl
theorem sX6_readStatement_312 : Rn r 41 312 [l0, l1, some (vI x), l3, l4, l5] [vI x0, vR z1] h Q ↔ Rn r 41 313 [l0, l1, some (vI x), l3, l4, l5] [vI x, vI x0, vR z1] h Q := Rn_nx pg41 rfl rfl
theorem sX6_readStatement_313 (hk : hK h a2 = 40) (hx : ¬ (x1 < 0 ∨ hL h a2 ≤ x1.toNatClampNeg)) : Rn r 41 313 [l0, l1, l2, l3, l4, l5] [vI x0, vI x1, vR (some a2)] h Q ↔ Rn r 41 314 [l0, l1, l2, l3, l4, l5] [] (putI h a2 x1.toNatClampNeg x0) Q := Rn_nx pg41 rfl ((if_pos hk).trans (if_neg hx))
theorem sX6_readStatement_314 : Rn r 41 314 [some (vR z), l1, l2, l3, l4, l5] [] h Q ↔ Rn r 41 315 [some (vR z), l1, l2, l3, l4, l5] [vR z] h Q := Rn_nx pg41 rfl rfl
theorem sX6_readStatement_315 (hk : hK h a0 = 15) : Rn r 41 315 [l0, l1, l2, l3, l4, l5] [vR (some a0)] h Q ↔ Rn r 41 318 [l0, l1, l2, l3, l4, l5] [vI (hI h a0 51)] h Q := Rn_nx pg41 rfl (if_pos ⟨(hk ▸ Nat.le_refl _), (hk ▸ Nat.le_refl _)⟩)
theorem sX6_readStatement_318 : Rn r 41 318 [l0, l1, l2, l3, l4, l5] [vI x0] h Q ↔ Rn r 41 320 [l0, l1, l2, l3, l4, l5] [vI 123, vI x0] h Q := Rn_nx pg41 rfl rfl
theorem sX6_readStatement_320 : Rn r 41 320 [l0, l1, l2, l3, l4, l5] [vI x0, vI x1] h Q ↔ if x1 ≠ x0 then Rn r 41 346 [l0, l1, l2, l3, l4, l5] [] h Q else Rn r 41 323 [l0, l1, l2, l3, l4, l5] [] h Q := Rn_if pg41 rfl rfl rfl
theorem sX6_readStatement_323 : Rn r 41 323 [some (vR z), l1, l2, l3, l4, l5] [] h Q ↔ Rn r 41 324 [some (vR z), l1, l2, l3, l4, l5] [vR z] h Q := Rn_nx pg41 rfl rfl
theorem sX6_readStatement_324 (hk : hK h a0 = 15) : Rn r 41 324 [l0, l1, l2, l3, l4, l5] [vR (some a0)] h Q ↔ Rn r 41 327 [l0, l1, l2, l3, l4, l5] [vR (hR h a0 20)] h Q := Rn_nx pg41 rfl (if_pos ⟨(hk ▸ Nat.le_refl _), (hk ▸ Nat.le_refl _)⟩)
theorem sX6_readStatement_327 : Rn r 41 327 [l0, l1, some (vI x), l3, l4, l5] [vR z0] h Q ↔ Rn r 41 328 [l0, l1, some (vI x), l3, l4, l5] [vI x, vR z0] h Q := Rn_nx pg41 rfl rfl
theorem sX6_readStatement_328 : Rn r 41 328 [l0, l1, l2, l3, l4, l5] [vI x0, vR z1] h Q ↔ Rn r 41 330 [l0, l1, l2, l3, l4, l5] [vI 11, vI x0, vR z1] h Q := Rn_nx pg41 rfl rfl
theorem sX6_readStatement_330 (hk : hK h a2 = 40) (hx : ¬ (x1 < 0 ∨ hL h a2 ≤ x1.toNatClampNeg)) : Rn r 41 330 [l0, l1, l2, l3, l4, l5] [vI x0, vI x1, vR (some a2)] h Q ↔ Rn r 41 331 [l0, l1, l2, l3, l4, l5] [] (putI h a2 x1.toNatClampNeg x0) Q := Rn_nx pg41 rfl ((if_pos hk).trans (if_neg hx))
theorem sX6_readStatement_331 : Rn r 41 331 [some (vR z), l1, l2, l3, l4, l5] [] h Q ↔ Rn r 41 332 [some (vR z), l1, l2, l3, l4, l5] [vR z] h Q := Rn_nx pg41 rfl rfl
theorem sX6_readStatement_332 (hk : hK h a0 = 15) : Rn r 41 332 [l0, l1, l2, l3, l4, l5] [vR (some a0)] h Q ↔ Rn r 41 335 [l0, l1, l2, l3, l4, l5] [vR (hR h a0 27)] h Q := Rn_nx pg41 rfl (if_pos ⟨(hk ▸ Nat.le_refl _), (hk ▸ Nat.le_refl _)⟩)
theorem sX6_readStatement_335 : Rn r 41 335 [l0, l1, some (vI x), l3, l4, l5] [vR z0] h Q ↔ Rn r 41 336 [l0, l1, some (vI x), l3, l4, l5] [vI x, vR z0] h Q := Rn_nx pg41 rfl rfl
theorem sX6_readStatement_336 : Rn r 41 336 [some (vR z), l1, l2, l3, l4, l5] [vI x0, vR z1] h Q ↔ Rn r 41 337 [some (vR z), l1, l2, l3, l4, l5] [vR z, vI x0, vR z1] h Q := Rn_nx pg41 rfl rfl
theorem sX6_readStatement_337 : Rn r 41 337 [l0, l1, l2, l3, l4, l5] [vR z0, vI x1, vR z2] h Q ↔ Rn r 41 339 [l0, l1, l2, l3, l4, l5] [vI 9, vR z0, vI x1, vR z2] h Q := Rn_nx pg41 rfl rfl
theorem sX6_readStatement_339 : Rn r 41 339 [l0, l1, some (vI x), l3, l4, l5] [vI x0, vR z1, vI x2, vR z3] h Q ↔ Rn r 41 340 [l0, l1, some (vI x), l3, l4, l5] [vI x, vI x0, vR z1, vI x2, vR z3] h Q := Rn_nx pg41 rfl rfl
theorem sX6_readStatement_340 : Rn r 41 340 [l0, l1, l2, l3, l4, l5] [vI x0, vI x1, vR z2, vI x3, vR z4] h Q ↔ Rn r 41 341 [l0, l1, l2, l3, l4, l5] [vI 0, vI x0, vI x1, vR z2, vI x3, vR z4] h Q := Rn_nx pg41 rfl rfl
theorem sX6_readStatement_341 (hk : hK h a3 = 15) : Rn r 41 341 [l0, l1, l2, l3, l4, l5] [vI x0, vI x1, vI x2, vR (some a3), vI x4, vR z5] h Q ↔ Cl r 91 [vR (some a3), vI x2, vI x1, vI x0] h (Kt r 41 344 [l0, l1, l2, l3, l4, l5] [vI x4, vR z5] Q) := Rn_call pg41 rfl (by simp only [am_exec, am_inv, am_pop, am_lk, hk]; rfl) pg91 rfl rfl rfl
theorem sX6_readStatement_344 (hk : hK h a2 = 40) (hx : ¬ (x1 < 0 ∨ hL h a2 ≤ x1.toNatClampNeg)) : Rn r 41 344 [l0, l1, l2, l3, l4, l5] [vI x0, vI x1, vR (some a2)] h Q ↔ Rn r 41 345 [l0, l1, l2, l3, l4, l5] [] (putI h a2 x1.toNatClampNeg x0) Q := Rn_nx pg41 rfl ((if_pos hk).trans (if_neg hx))
theorem sX6_readStatement_345 : Rn r 41 345 [l0, l1, l2, l3, l4, l5] [] h Q ↔ Q (Sum.inl none) h := Rn_end pg41 rfl rfl
theorem sX6_readStatement_346 : Rn r 41 346 [some (vR z), l1, l2, l3, l4, l5] [] h Q ↔ Rn r 41 347 [some (vR z), l1, l2, l3, l4, l5] [vR z] h Q := Rn_nx pg41 rfl rfl
theorem sX6_readStatement_347 (hk : hK h a0 = 15) : Rn r 41 347 [l0, l1, l2, l3, l4, l5] [vR (some a0)] h Q ↔ Rn r 41 350 [l0, l1, l2, l3, l4, l5] [vL (hJ h a0 50)] h Q := Rn_nx pg41 rfl (if_pos ⟨(hk ▸ Nat.le_refl _), (hk ▸ Nat.le_refl _)⟩)
theorem sX6_readStatement_350 : Rn r 41 350 [l0, l1, l2, l3, l4, l5] [vL y0] h Q ↔ Rn r 41 352 [l0, l1, l2, l3, some (vL y0), none] [] h Q := Rn_nx pg41 rfl rfl
theorem sX6_readStatement_352 : Rn r 41 352 [some (vR z), l1, l2, l3, l4, l5] [] h Q ↔ Rn r 41 353 [some (vR z), l1, l2, l3, l4, l5] [vR z] h Q := Rn_nx pg41 rfl rfl
theorem sX6_readStatement_353 (hk : hK h a0 = 15) : Rn r 41 353 [l0, l1, l2, l3, l4, l5] [vR (some a0)] h Q ↔ Cl r 35 [vR (some a0)] h (Kt r 41 356 [l0, l1, l2, l3, l4, l5] [] Q) := Rn_call pg41 rfl (by simp only [am_exec, am_inv, am_pop, am_lk, hk]; rfl) pg35 rfl rfl rfl
theorem sX6_readStatement_356 : Rn r 41 356 [l0, l1, l2, l3, some (vL y), l5] [] h Q ↔ Rn r 41 358 [l0, l1, l2, l3, some (vL y), l5] [vL y] h Q := Rn_nx pg41 rfl rfl
theorem sX6_readStatement_358 : Rn r 41 358 [l0, l1, l2, l3, l4, l5] [vL y0] h Q ↔ Rn r 41 361 [l0, l1, l2, l3, l4, l5] [vL 25711, vL y0] h Q := Rn_nx pg41 rfl rfl
theorem sX6_readStatement_361 : Rn r 41 361 [l0, l1, l2, l3, l4, l5] [vL y0, vL y1] h Q ↔ Rn r 41 362 [l0, l1, l2, l3, l4, l5] [vI (lg_cmp y1 y0)] h Q := Rn_nx pg41 rfl rfl
theorem sX6_readStatement_362 : Rn r 41 362 [l0, l1, l2, l3, l4, l5] [vI x0] h Q ↔ if x0 = 0 then Rn r 41 383 [l0, l1, l2, l3, l4, l5] [] h Q else Rn r 41 365 [l0, l1, l2, l3, l4, l5] [] h Q := Rn_if pg41 rfl rfl rfl
theorem sX6_readStatement_365 : Rn r 41 365 [l0, l1, l2, l3, some (vL y), l5] [] h Q ↔ Rn r 41 367 [l0, l1, l2, l3, some (vL y), l5] [vL y] h Q := Rn_nx pg41 rfl rfl
theorem sX6_readStatement_367 : Rn r 41 367 [l0, l1, l2, l3, l4, l5] [vL y0] h Q ↔ Rn r 41 370 [l0, l1, l2, l3, l4, l5] [vL 422826041707, vL y0] h Q := Rn_nx pg41 rfl rfl
theorem sX6_readStatement_370 : Rn r 41 370 [l0, l1, l2, l3, l4, l5] [vL y0, vL y1] h Q ↔ Rn r 41 371 [l0, l1, l2, l3, l4, l5] [vI (lg_cmp y1 y0)] h Q := Rn_nx pg41 rfl rfl
theorem sX6_readStatement_371 : Rn r 41 371 [l0, l1, l2, l3, l4, l5] [vI x0] h Q ↔ if x0 = 0 then Rn r 41 383 [l0, l1, l2, l3, l4, l5] [] h Q else Rn r 41 374 [l0, l1, l2, l3, l4, l5] [] h Q := Rn_if pg41 rfl rfl rfl
theorem sX6_readStatement_374 : Rn r 41 374 [l0, l1, l2, l3, some (vL y), l5] [] h Q ↔ Rn r 41 376 [l0, l1, l2, l3, some (vL y), l5] [vL y] h Q := Rn_nx pg41 rfl rfl
theorem sX6_readStatement_376 : Rn r 41 376 [l0, l1, l2, l3, l4, l5] [vL y0] h Q ↔ Rn r 41 379 [l0, l1, l2, l3, l4, l5] [vL 125780071117422, vL y0] h Q := Rn_nx pg41 rfl rfl
theorem sX6_readStatement_379 : Rn r 41 379 [l0, l1, l2, l3, l4, l5] [vL y0, vL y1] h Q ↔ Rn r 41 380 [l0, l1, l2, l3, l4, l5] [vI (lg_cmp y1 y0)] h Q := Rn_nx pg41 rfl rfl
theorem sX6_readStatement_380 : Rn r 41 380 [l0, l1, l2, l3, l4, l5] [vI x0] h Q ↔ if x0 ≠ 0 then Rn r 41 428 [l0, l1, l2, l3, l4, l5] [] h Q else Rn r 41 383 [l0, l1, l2, l3, l4, l5] [] h Q := Rn_if pg41 rfl rfl rfl
theorem sX6_readStatement_383 : Rn r 41 383 [some (vR z), l1, l2, l3, l4, l5] [] h Q ↔ Rn r 41 384 [some (vR z), l1, l2, l3, l4, l5] [vR z] h Q := Rn_nx pg41 rfl rfl
theorem sX6_readStatement_384 (hk : hK h a0 = 15) : Rn r 41 384 [l0, l1, l2, l3, l4, l5] [vR (some a0)] h Q ↔ Rn r 41 387 [l0, l1, l2, l3, l4, l5] [vR (hR h a0 20)] h Q := Rn_nx pg41 rfl (if_pos ⟨(hk ▸ Nat.le_refl _), (hk ▸ Nat.le_refl _)⟩)
theorem sX6_readStatement_387 : Rn r 41 387 [l0, l1, some (vI x), l3, l4, l5] [vR z0] h Q ↔ Rn r 41 388 [l0, l1, some (vI x), l3, l4, l5] [vI x, vR z0] h Q := Rn_nx pg41 rfl rfl
theorem sX6_readStatement_388 : Rn r 41 388 [l0, l1, l2, l3, some (vL y), l5] [vI x0, vR z1] h Q ↔ Rn r 41 390 [l0, l1, l2, l3, some (vL y), l5] [vL y, vI x0, vR z1] h Q := Rn_nx pg41 rfl rfl
theorem sX6_readStatement_390 : Rn r 41 390 [l0, l1, l2, l3, l4, l5] [vL y0, vI x1, vR z2] h Q ↔ Rn r 41 393 [l0, l1, l2, l3, l4, l5] [vL 25711, vL y0, vI x1, vR z2] h Q := Rn_nx pg41 rfl rfl
theorem sX6_readStatement_393 : Rn r 41 393 [l0, l1, l2, l3, l4, l5] [vL y0, vL y1, vI x2, vR z3] h Q ↔ Rn r 41 394 [l0, l1, l2, l3, l4, l5] [vI (lg_cmp y1 y0), vI x2, vR z3] h Q := Rn_nx pg41 rfl rfl
theorem sX6_readStatement_394 : Rn r 41 394 [l0, l1, l2, l3, l4, l5] [vI x0, vI x1, vR z2] h Q ↔ if x0 ≠ 0 then Rn r 41 401 [l0, l1, l2, l3, l4, l5] [vI x1, vR z2] h Q else Rn r 41 397 [l0, l1, l2, l3, l4, l5] [vI x1, vR z2] h Q := Rn_if pg41 rfl rfl rfl
theorem sX6_readStatement_397 : Rn r 41 397 [l0, l1, l2, l3, l4, l5] [vI x0, vR z1] h Q ↔ Rn r 41 398 [l0, l1, l2, l3, l4, l5] [vI 0, vI x0, vR z1] h Q := Rn_nx pg41 rfl rfl
theorem sX6_readStatement_398 : Rn r 41 398 [l0, l1, l2, l3, l4, l5] [vI x0, vI x1, vR z2] h Q ↔ Rn r 41 417 [l0, l1, l2, l3, l4, l5] [vI x0, vI x1, vR z2] h Q := Rn_nx pg41 rfl rfl
theorem sX6_readStatement_401 : Rn r 41 401 [l0, l1, l2, l3, some (vL y), l5] [vI x0, vR z1] h Q ↔ Rn r 41 403 [l0, l1, l2, l3, some (vL y), l5] [vL y, vI x0, vR z1] h Q := Rn_nx pg41 rfl rfl
theorem sX6_readStatement_403 : Rn r 41 403 [l0, l1, l2, l3, l4, l5] [vL y0, vI x1, vR z2] h Q ↔ Rn r 41 406 [l0, l1, l2, l3, l4, l5] [vL 422826041707, vL y0, vI x1, vR z2] h Q := Rn_nx pg41 rfl rfl
theorem sX6_readStatement_406 : Rn r 41 406 [l0, l1, l2, l3, l4, l5] [vL y0, vL y1, vI x2, vR z3] h Q ↔ Rn r 41 407 [l0, l1, l2, l3, l4, l5] [vI (lg_cmp y1 y0), vI x2, vR z3] h Q := Rn_nx pg41 rfl rfl
theorem sX6_readStatement_407 : Rn r 41 407 [l0, l1, l2, l3, l4, l5] [vI x0, vI x1, vR z2] h Q ↔ if x0 ≠ 0 then Rn r 41 415 [l0, l1, l2, l3, l4, l5] [vI x1, vR z2] h Q else Rn r 41 410 [l0, l1, l2, l3, l4, l5] [vI x1, vR z2] h Q := Rn_if pg41 rfl rfl rfl
theorem sX6_readStatement_410 : Rn r 41 410 [l0, l1, l2, l3, l4, l5] [vI x0, vR z1] h Q ↔ Rn r 41 412 [l0, l1, l2, l3, l4, l5] [vI 7, vI x0, vR z1] h Q := Rn_nx pg41 rfl rfl
theorem sX6_readStatement_412 : Rn r 41 412 [l0, l1, l2, l3, l4, l5] [vI x0, vI x1, vR z2] h Q ↔ Rn r 41 417 [l0, l1, l2, l3, l4, l5] [vI x0, vI x1, vR z2] h Q := Rn_nx pg41 rfl rfl
theorem sX6_readStatement_415 : Rn r 41 415 [l0, l1, l2, l3, l4, l5] [vI x0, vR z1] h Q ↔ Rn r 41 417 [l0, l1, l2, l3, l4, l5] [vI 8, vI x0, vR z1] h Q := Rn_nx pg41 rfl rfl
theorem sX6_readStatement_417 (hk : hK h a2 = 40) (hx : ¬ (x1 < 0 ∨ hL h a2 ≤ x1.toNatClampNeg)) : Rn r 41 417 [l0, l1, l2, l3, l4, l5] [vI x0, vI x1, vR (some a2)] h Q ↔ Rn r 41 418 [l0, l1, l2, l3, l4, l5] [] (putI h a2 x1.toNatClampNeg x0) Q := Rn_nx pg41 rfl ((if_pos hk).trans (if_neg hx))
theorem sX6_readStatement_418 : Rn r 41 418 [some (vR z), l1, l2, l3, l4, l5] [] h Q ↔ Rn r 41 419 [some (vR z), l1, l2, l3, l4, l5] [vR z] h Q := Rn_nx pg41 rfl rfl
theorem sX6_readStatement_419 : Rn r 41 419 [l0, l1, l2, l3, l4, l5] [vR z0] h Q ↔ Rn r 41 421 [l0, l1, l2, l3, l4, l5] [vI 59, vR z0] h Q := Rn_nx pg41 rfl rfl
theorem sX6_readStatement_421 (hk : hK h a1 = 15) : Rn r 41 421 [l0, l1, l2, l3, l4, l5] [vI x0, vR (some a1)] h Q ↔ Cl r 90 [vR (some a1), vI x0] h (Kt r 41 424 [l0, l1, l2, l3, l4, l5] [] Q) := Rn_call pg41 rfl (by simp only [am_exec, am_inv, am_pop, am_lk, hk]; rfl) pg90 rfl rfl rfl
theorem sX6_readStatement_424 : Rn r 41 424 [l0, l1, l2, l3, l4, l5] [vI x0] h Q ↔ Rn r 41 425 [l0, l1, l2, l3, l4, l5] [] h Q := Rn_nx pg41 rfl rfl
theorem sX6_readStatement_425 : Rn r 41 425 [l0, l1, l2, l3, l4, l5] [] h Q ↔ Rn r 41 725 [l0, l1, l2, l3, l4, l5] [] h Q := Rn_nx pg41 rfl rfl
theorem sX6_readStatement_428 : Rn r 41 428 [l0, l1, l2, l3, some (vL y), l5] [] h Q ↔ Rn r 41 430 [l0, l1, l2, l3, some (vL y), l5] [vL y] h Q := Rn_nx pg41 rfl rfl
theorem sX6_readStatement_430 : Rn r 41 430 [l0, l1, l2, l3, l4, l5] [vL y0] h Q ↔ Rn r 41 433 [l0, l1, l2, l3, l4, l5] [vL 499968536439, vL y0] h Q := Rn_nx pg41 rfl rfl
theorem sX6_readStatement_433 : Rn r 41 433 [l0, l1, l2, l3, l4, l5] [vL y0, vL y1] h Q ↔ Rn r 41 434 [l0, l1, l2, l3, l4, l5] [vI (lg_cmp y1 y0)] h Q := Rn_nx pg41 rfl rfl
theorem sX6_readStatement_434 : Rn r 41 434 [l0, l1, l2, l3, l4, l5] [vI x0] h Q ↔ if x0 = 0 then Rn r 41 455 [l0, l1, l2, l3, l4, l5] [] h Q else Rn r 41 437 [l0, l1, l2, l3, l4, l5] [] h Q := Rn_if pg41 rfl rfl rfl
theorem sX6_readStatement_437 : Rn r 41 437 [l0, l1, l2, l3, some (vL y), l5] [] h Q ↔ Rn r 41 439 [l0, l1, l2, l3, some (vL y), l5] [vL y] h Q := Rn_nx pg41 rfl rfl
theorem sX6_readStatement_439 : Rn r 41 439 [l0, l1, l2, l3, l4, l5] [vL y0] h Q ↔ Rn r 41 442 [l0, l1, l2, l3, l4, l5] [vL 7562612, vL y0] h Q := Rn_nx pg41 rfl rfl
theorem sX6_readStatement_442 : Rn r 41 442 [l0, l1, l2, l3, l4, l5] [vL y0, vL y1] h Q ↔ Rn r 41 443 [l0, l1, l2, l3, l4, l5] [vI (lg_cmp y1 y0)] h Q := Rn_nx pg41 rfl rfl
theorem sX6_readStatement_443 : Rn r 41 443 [l0, l1, l2, l3, l4, l5] [vI x0] h Q ↔ if x0 = 0 then Rn r 41 455 [l0, l1, l2, l3, l4, l5] [] h Q else Rn r 41 446 [l0, l1, l2, l3, l4, l5] [] h Q := Rn_if pg41 rfl rfl rfl
theorem sX6_readStatement_446 : Rn r 41 446 [l0, l1, l2, l3, some (vL y), l5] [] h Q ↔ Rn r 41 448 [l0, l1, l2, l3, some (vL y), l5] [vL y] h Q := Rn_nx pg41 rfl rfl
theorem sX6_readStatement_448 : Rn r 41 448 [l0, l1, l2, l3, l4, l5] [vL y0] h Q ↔ Rn r 41 451 [l0, l1, l2, l3, l4, l5] [vL 1667329132, vL y0] h Q := Rn_nx pg41 rfl rfl
theorem sX6_readStatement_451 : Rn r 41 451 [l0, l1, l2, l3, l4, l5] [vL y0, vL y1] h Q ↔ Rn r 41 452 [l0, l1, l2, l3, l4, l5] [vI (lg_cmp y1 y0)] h Q := Rn_nx pg41 rfl rfl
theorem sX6_readStatement_452 : Rn r 41 452 [l0, l1, l2, l3, l4, l5] [vI x0] h Q ↔ if x0 ≠ 0 then Rn r 41 560 [l0, l1, l2, l3, l4, l5] [] h Q else Rn r 41 455 [l0, l1, l2, l3, l4, l5] [] h Q := Rn_if pg41 rfl rfl rfl
theorem sX6_readStatement_455 : Rn r 41 455 [some (vR z), l1, l2, l3, l4, l5] [] h Q ↔ Rn r 41 456 [some (vR z), l1, l2, l3, l4, l5] [vR z] h Q := Rn_nx pg41 rfl rfl
theorem sX6_readStatement_456 (hk : hK h a0 = 15) : Rn r 41 456 [l0, l1, l2, l3, l4, l5] [vR (some a0)] h Q ↔ Rn r 41 459 [l0, l1, l2, l3, l4, l5] [vR (hR h a0 20)] h Q := Rn_nx pg41 rfl (if_pos ⟨(hk ▸ Nat.le_refl _), (hk ▸ Nat.le_refl _)⟩)
theorem sX6_readStatement_459 : Rn r 41 459 [l0, l1, some (vI x), l3, l4, l5] [vR z0] h Q ↔ Rn r 41 460 [l0, l1, some (vI x), l3, l4, l5] [vI x, vR z0] h Q := Rn_nx pg41 rfl rfl
theorem sX6_readStatement_460 : Rn r 41 460 [l0, l1, l2, l3, some (vL y), l5] [vI x0, vR z1] h Q ↔ Rn r 41 462 [l0, l1, l2, l3, some (vL y), l5] [vL y, vI x0, vR z1] h Q := Rn_nx pg41 rfl rfl
theorem sX6_readStatement_462 : Rn r 41 462 [l0, l1, l2, l3, l4, l5] [vL y0, vI x1, vR z2] h Q ↔ Rn r 41 465 [l0, l1, l2, l3, l4, l5] [vL 499968536439, vL y0, vI x1, vR z2] h Q := Rn_nx pg41 rfl rfl
theorem sX6_readStatement_465 : Rn r 41 465 [l0, l1, l2, l3, l4, l5] [vL y0, vL y1, vI x2, vR z3] h Q ↔ Rn r 41 466 [l0, l1, l2, l3, l4, l5] [vI (lg_cmp y1 y0), vI x2, vR z3] h Q := Rn_nx pg41 rfl rfl
theorem sX6_readStatement_466 : Rn r 41 466 [l0, l1, l2, l3, l4, l5] [vI x0, vI x1, vR z2] h Q ↔ if x0 ≠ 0 then Rn r 41 473 [l0, l1, l2, l3, l4, l5] [vI x1, vR z2] h Q else Rn r 41 469 [l0, l1, l2, l3, l4, l5] [vI x1, vR z2] h Q := Rn_if pg41 rfl rfl rfl
theorem sX6_readStatement_469 : Rn r 41 469 [l0, l1, l2, l3, l4, l5] [vI x0, vR z1] h Q ↔ Rn r 41 470 [l0, l1, l2, l3, l4, l5] [vI 2, vI x0, vR z1] h Q := Rn_nx pg41 rfl rfl
theorem sX6_readStatement_470 : Rn r 41 470 [l0, l1, l2, l3, l4, l5] [vI x0, vI x1, vR z2] h Q ↔ Rn r 41 487 [l0, l1, l2, l3, l4, l5] [vI x0, vI x1, vR z2] h Q := Rn_nx pg41 rfl rfl
theorem sX6_readStatement_473 : Rn r 41 473 [l0, l1, l2, l3, some (vL y), l5] [vI x0, vR z1] h Q ↔ Rn r 41 475 [l0, l1, l2, l3, some (vL y), l5] [vL y, vI x0, vR z1] h Q := Rn_nx pg41 rfl rfl
theorem sX6_readStatement_475 : Rn r 41 475 [l0, l1, l2, l3, l4, l5] [vL y0, vI x1, vR z2] h Q ↔ Rn r 41 478 [l0, l1, l2, l3, l4, l5] [vL 7562612, vL y0, vI x1, vR z2] h Q := Rn_nx pg41 rfl rfl
theorem sX6_readStatement_478 : Rn r 41 478 [l0, l1, l2, l3, l4, l5] [vL y0, vL y1, vI x2, vR z3] h Q ↔ Rn r 41 479 [l0, l1, l2, l3, l4, l5] [vI (lg_cmp y1 y0), vI x2, vR z3] h Q := Rn_nx pg41 rfl rfl
theorem sX6_readStatement_479 : Rn r 41 479 [l0, l1, l2, l3, l4, l5] [vI x0, vI x1, vR z2] h Q ↔ if x0 ≠ 0 then Rn r 41 486 [l0, l1, l2, l3, l4, l5] [vI x1, vR z2] h Q else Rn r 41 482 [l0, l1, l2, l3, l4, l5] [vI x1, vR z2] h Q := Rn_if pg41 rfl rfl rfl
theorem sX6_readStatement_482 : Rn r 41 482 [l0, l1, l2, l3, l4, l5] [vI x0, vR z1] h Q ↔ Rn r 41 483 [l0, l1, l2, l3, l4, l5] [vI 3, vI x0, vR z1] h Q := Rn_nx pg41 rfl rfl
theorem sX6_readStatement_483 : Rn r 41 483 [l0, l1, l2, l3, l4, l5] [vI x0, vI x1, vR z2] h Q ↔ Rn r 41 487 [l0, l1, l2, l3, l4, l5] [vI x0, vI x1, vR z2] h Q := Rn_nx pg41 rfl rfl
theorem sX6_readStatement_486 : Rn r 41 486 [l0, l1, l2, l3, l4, l5] [vI x0, vR z1] h Q ↔ Rn r 41 487 [l0, l1, l2, l3, l4, l5] [vI 1, vI x0, vR z1] h Q := Rn_nx pg41 rfl rfl
theorem sX6_readStatement_487 (hk : hK h a2 = 40) (hx : ¬ (x1 < 0 ∨ hL h a2 ≤ x1.toNatClampNeg)) : Rn r 41 487 [l0, l1, l2, l3, l4, l5] [vI x0, vI x1, vR (some a2)] h Q ↔ Rn r 41 488 [l0, l1, l2, l3, l4, l5] [] (putI h a2 x1.toNatClampNeg x0) Q := Rn_nx pg41 rfl ((if_pos hk).trans (if_neg hx))
theorem sX6_readStatement_488 : Rn r 41 488 [some (vR z), l1, l2, l3, l4, l5] [] h Q ↔ Rn r 41 489 [some (vR z), l1, l2, l3, l4, l5] [vR z] h Q := Rn_nx pg41 rfl rfl
theorem sX6_readStatement_489 (hk : hK h a0 = 15) : Rn r 41 489 [l0, l1, l2, l3, l4, l5] [vR (some a0)] h Q ↔ Cl r 88 [vR (some a0)] h (Kt r 41 492 [l0, l1, l2, l3, l4, l5] [] Q) := Rn_call pg41 rfl (by simp only [am_exec, am_inv, am_pop, am_lk, hk]; rfl) pg88 rfl rfl rfl
theorem sX6_readStatement_492 : Rn r 41 492 [l0, l1, l2, l3, l4, l5] [vI x0] h Q ↔ if x0 ≠ 0 then Rn r 41 496 [l0, l1, l2, l3, l4, l5] [] h Q else Rn r 41 495 [l0, l1, l2, l3, l4, l5] [] h Q := Rn_if pg41 rfl rfl rfl
theorem sX6_readStatement_495 : Rn r 41 495 [l0, l1, l2, l3, l4, l5] [] h Q ↔ Q (Sum.inl none) h := Rn_end pg41 rfl rfl
theorem sX6_readStatement_496 : Rn r 41 496 [some (vR z), l1, l2, l3, l4, l5] [] h Q ↔ Rn r 41 497 [some (vR z), l1, l2, l3, l4, l5] [vR z] h Q := Rn_nx pg41 rfl rfl
theorem sX6_readStatement_497 (hk : hK h a0 = 15) : Rn r 41 497 [l0, l1, l2, l3, l4, l5] [vR (some a0)] h Q ↔ Rn r 41 500 [l0, l1, l2, l3, l4, l5] [vR (hR h a0 25)] h Q := Rn_nx pg41 rfl (if_pos ⟨(hk ▸ Nat.le_refl _), (hk ▸ Nat.le_refl _)⟩)
theorem sX6_readStatement_500 : Rn r 41 500 [l0, l1, some (vI x), l3, l4, l5] [vR z0] h Q ↔ Rn r 41 501 [l0, l1, some (vI x), l3, l4, l5] [vI x, vR z0] h Q := Rn_nx pg41 rfl rfl
theorem sX6_readStatement_501 : Rn r 41 501 [some (vR z), l1, l2, l3, l4, l5] [vI x0, vR z1] h Q ↔ Rn r 41 502 [some (vR z), l1, l2, l3, l4, l5] [vR z, vI x0, vR z1] h Q := Rn_nx pg41 rfl rfl
theorem sX6_readStatement_502 (hk : hK h a0 = 15) : Rn r 41 502 [l0, l1, l2, l3, l4, l5] [vR (some a0), vI x1, vR z2] h Q ↔ Rn r 41 505 [l0, l1, l2, l3, l4, l5] [vL (hJ h a0 53), vI x1, vR z2] h Q := Rn_nx pg41 rfl (if_pos ⟨(hk ▸ Nat.le_refl _), (hk ▸ Nat.le_refl _)⟩)
theorem sX6_readStatement_505 (hk : hK h a2 = 42) (hx : ¬ (x1 < 0 ∨ hL h a2 ≤ x1.toNatClampNeg)) : Rn r 41 505 [l0, l1, l2, l3, l4, l5] [vL y0, vI x1, vR (some a2)] h Q ↔ Rn r 41 506 [l0, l1, l2, l3, l4, l5] [] (putJ h a2 x1.toNatClampNeg y0) Q := Rn_nx pg41 rfl ((if_pos hk).trans (if_neg hx))
theorem sX6_readStatement_506 : Rn r 41 506 [some (vR z), l1, l2, l3, l4, l5] [] h Q ↔ Rn r 41 507 [some (vR z), l1, l2, l3, l4, l5] [vR z] h Q := Rn_nx pg41 rfl rfl
theorem sX6_readStatement_507 (hk : hK h a0 = 15) : Rn r 41 507 [l0, l1, l2, l3, l4, l5] [vR (some a0)] h Q ↔ Rn r 41 510 [l0, l1, l2, l3, l4, l5] [vR (hR h a0 26)] h Q := Rn_nx pg41 rfl (if_pos ⟨(hk ▸ Nat.le_refl _), (hk ▸ Nat.le_refl _)⟩)
theorem sX6_readStatement_510 : Rn r 41 510 [l0, l1, some (vI x), l3, l4, l5] [vR z0] h Q ↔ Rn r 41 511 [l0, l1, some (vI x), l3, l4, l5] [vI x, vR z0] h Q := Rn_nx pg41 rfl rfl
theorem sX6_readStatement_511 : Rn r 41 511 [some (vR z), l1, l2, l3, l4, l5] [vI x0, vR z1] h Q ↔ Rn r 41 512 [some (vR z), l1, l2, l3, l4, l5] [vR z, vI x0, vR z1] h Q := Rn_nx pg41 rfl rfl
theorem sX6_readStatement_512 (hk : hK h a0 = 15) : Rn r 41 512 [l0, l1, l2, l3, l4, l5] [vR (some a0), vI x1, vR z2] h Q ↔ Rn r 41 515 [l0, l1, l2, l3, l4, l5] [vI (hI h a0 54), vI x1, vR z2] h Q := Rn_nx pg41 rfl (if_pos ⟨(hk ▸ Nat.le_refl _), (hk ▸ Nat.le_refl _)⟩)
theorem sX6_readStatement_515 (hk : hK h a2 = 40) (hx : ¬ (x1 < 0 ∨ hL h a2 ≤ x1.toNatClampNeg)) : Rn r 41 515 [l0, l1, l2, l3, l4, l5] [vI x0, vI x1, vR (some a2)] h Q ↔ Rn r 41 516 [l0, l1, l2, l3, l4, l5] [] (putI h a2 x1.toNatClampNeg x0) Q := Rn_nx pg41 rfl ((if_pos hk).trans (if_neg hx))
theorem sX6_readStatement_516 : Rn r 41 516 [l0, l1, l2, l3, some (vL y), l5] [] h Q ↔ Rn r 41 518 [l0, l1, l2, l3, some (vL y), l5] [vL y] h Q := Rn_nx pg41 rfl rfl
theorem sX6_readStatement_518 : Rn r 41 518 [l0, l1, l2, l3, l4, l5] [vL y0] h Q ↔ Rn r 41 521 [l0, l1, l2, l3, l4, l5] [vL 1667329132, vL y0] h Q := Rn_nx pg41 rfl rfl
theorem sX6_readStatement_521 : Rn r 41 521 [l0, l1, l2, l3, l4, l5] [vL y0, vL y1] h Q ↔ Rn r 41 522 [l0, l1, l2, l3, l4, l5] [vI (lg_cmp y1 y0)] h Q := Rn_nx pg41 rfl rfl
theorem sX6_readStatement_522 : Rn r 41 522 [l0, l1, l2, l3, l4, l5] [vI x0] h Q ↔ if x0 ≠ 0 then Rn r 41 550 [l0, l1, l2, l3, l4, l5] [] h Q else Rn r 41 525 [l0, l1, l2, l3, l4, l5] [] h Q := Rn_if pg41 rfl rfl rfl
theorem sX6_readStatement_525 : Rn r 41 525 [some (vR z), l1, l2, l3, l4, l5] [] h Q ↔ Rn r 41 526 [some (vR z), l1, l2, l3, l4, l5] [vR z] h Q := Rn_nx pg41 rfl rfl
theorem sX6_readStatement_526 (hk : hK h a0 = 15) : Rn r 41 526 [l0, l1, l2, l3, l4, l5] [vR (some a0)] h Q ↔ Rn r 41 529 [l0, l1, l2, l3, l4, l5] [vI (hI h a0 51)] h Q := Rn_nx pg41 rfl (if_pos ⟨(hk ▸ Nat.le_refl _), (hk ▸ Nat.le_refl _)⟩)
theorem sX6_readStatement_529 : Rn r 41 529 [l0, l1, l2, l3, l4, l5] [vI x0] h Q ↔ Rn r 41 531 [l0, l1, l2, l3, l4, l5] [vI 123, vI x0] h Q := Rn_nx pg41 rfl rfl
theorem sX6_readStatement_531 : Rn r 41 531 [l0, l1, l2, l3, l4, l5] [vI x0, vI x1] h Q ↔ if x1 ≠ x0 then Rn r 41 550 [l0, l1, l2, l3, l4, l5] [] h Q else Rn r 41 534 [l0, l1, l2, l3, l4, l5] [] h Q := Rn_if pg41 rfl rfl rfl
theorem sX6_readStatement_534 : Rn r 41 534 [some (vR z), l1, l2, l3, l4, l5] [] h Q ↔ Rn r 41 535 [some (vR z), l1, l2, l3, l4, l5] [vR z] h Q := Rn_nx pg41 rfl rfl
theorem sX6_readStatement_535 (hk : hK h a0 = 15) : Rn r 41 535 [l0, l1, l2, l3, l4, l5] [vR (some a0)] h Q ↔ Rn r 41 538 [l0, l1, l2, l3, l4, l5] [vR (hR h a0 27)] h Q := Rn_nx pg41 rfl (if_pos ⟨(hk ▸ Nat.le_refl _), (hk ▸ Nat.le_refl _)⟩)
theorem sX6_readStatement_538 : Rn r 41 538 [l0, l1, some (vI x), l3, l4, l5] [vR z0] h Q ↔ Rn r 41 539 [l0, l1, some (vI x), l3, l4, l5] [vI x, vR z0] h Q := Rn_nx pg41 rfl rfl
theorem sX6_readStatement_539 : Rn r 41 539 [some (vR z), l1, l2, l3, l4, l5] [vI x0, vR z1] h Q ↔ Rn r 41 540 [some (vR z), l1, l2, l3, l4, l5] [vR z, vI x0, vR z1] h Q := Rn_nx pg41 rfl rfl
theorem sX6_readStatement_540 : Rn r 41 540 [l0, l1, l2, l3, l4, l5] [vR z0, vI x1, vR z2] h Q ↔ Rn r 41 541 [l0, l1, l2, l3, l4, l5] [vI 1, vR z0, vI x1, vR z2] h Q := Rn_nx pg41 rfl rfl
theorem sX6_readStatement_541 : Rn r 41 541 [l0, l1, some (vI x), l3, l4, l5] [vI x0, vR z1, vI x2, vR z3] h Q ↔ Rn r 41 542 [l0, l1, some (vI x), l3, l4, l5] [vI x, vI x0, vR z1, vI x2, vR z3] h Q := Rn_nx pg41 rfl rfl
theorem sX6_readStatement_542 : Rn r 41 542 [l0, l1, l2, l3, l4, l5] [vI x0, vI x1, vR z2, vI x3, vR z4] h Q ↔ Rn r 41 543 [l0, l1, l2, l3, l4, l5] [vI 0, vI x0, vI x1, vR z2, vI x3, vR z4] h Q := Rn_nx pg41 rfl rfl
theorem sX6_readStatement_543 (hk : hK h a3 = 15) : Rn r 41 543 [l0, l1, l2, l3, l4, l5] [vI x0, vI x1, vI x2, vR (some a3), vI x4, vR z5] h Q ↔ Cl r 91 [vR (some a3), vI x2, vI x1, vI x0] h (Kt r 41 546 [l0, l1, l2, l3, l4, l5] [vI x4, vR z5] Q) := Rn_call pg41 rfl (by simp only [am_exec, am_inv, am_pop, am_lk, hk]; rfl) pg91 rfl rfl rfl
theorem sX6_readStatement_546 (hk : hK h a2 = 40) (hx : ¬ (x1 < 0 ∨ hL h a2 ≤ x1.toNatClampNeg)) : Rn r 41 546 [l0, l1, l2, l3, l4, l5] [vI x0, vI x1, vR (some a2)] h Q ↔ Rn r 41 547 [l0, l1, l2, l3, l4, l5] [] (putI h a2 x1.toNatClampNeg x0) Q := Rn_nx pg41 rfl ((if_pos hk).trans (if_neg hx))
theorem sX6_readStatement_547 : Rn r 41 547 [l0, l1, l2, l3, l4, l5] [] h Q ↔ Rn r 41 725 [l0, l1, l2, l3, l4, l5] [] h Q := Rn_nx pg41 rfl rfl
theorem sX6_readStatement_550 : Rn r 41 550 [some (vR z), l1, l2, l3, l4, l5] [] h Q ↔ Rn r 41 551 [some (vR z), l1, l2, l3, l4, l5] [vR z] h Q := Rn_nx pg41 rfl rfl
theorem sX6_readStatement_551 : Rn r 41 551 [l0, l1, l2, l3, l4, l5] [vR z0] h Q ↔ Rn r 41 553 [l0, l1, l2, l3, l4, l5] [vI 59, vR z0] h Q := Rn_nx pg41 rfl rfl
theorem sX6_readStatement_553 (hk : hK h a1 = 15) : Rn r 41 553 [l0, l1, l2, l3, l4, l5] [vI x0, vR (some a1)] h Q ↔ Cl r 90 [vR (some a1), vI x0] h (Kt r 41 556 [l0, l1, l2, l3, l4, l5] [] Q) := Rn_call pg41 rfl (by simp only [am_exec, am_inv, am_pop, am_lk, hk]; rfl) pg90 rfl rfl rfl
theorem sX6_readStatement_556 : Rn r 41 556 [l0, l1, l2, l3, l4, l5] [vI x0] h Q ↔ Rn r 41 557 [l0, l1, l2, l3, l4, l5] [] h Q := Rn_nx pg41 rfl rfl
theorem sX6_readStatement_557 : Rn r 41 557 [l0, l1, l2, l3, l4, l5] [] h Q ↔ Rn r 41 725 [l0, l1, l2, l3, l4, l5] [] h Q := Rn_nx pg41 rfl rfl
theorem sX6_readStatement_560 : Rn r 41 560 [l0, l1, l2, l3, some (vL y), l5] [] h Q ↔ Rn r 41 562 [l0, l1, l2, l3, some (vL y), l5] [vL y] h Q := Rn_nx pg41 rfl rfl
theorem sX6_readStatement_562 : Rn r 41 562 [l0, l1, l2, l3, l4, l5] [vL y0] h Q ↔ Rn r 41 565 [l0, l1, l2, l3, l4, l5] [vL 26982, vL y0] h Q := Rn_nx pg41 rfl rfl
theorem sX6_readStatement_565 : Rn r 41 565 [l0, l1, l2, l3, l4, l5] [vL y0, vL y1] h Q ↔ Rn r 41 566 [l0, l1, l2, l3, l4, l5] [vI (lg_cmp y1 y0)] h Q := Rn_nx pg41 rfl rfl
theorem sX6_readStatement_566 : Rn r 41 566 [l0, l1, l2, l3, l4, l5] [vI x0] h Q ↔ if x0 = 0 then Rn r 41 578 [l0, l1, l2, l3, l4, l5] [] h Q else Rn r 41 569 [l0, l1, l2, l3, l4, l5] [] h Q := Rn_if pg41 rfl rfl rfl
theorem sX6_readStatement_569 : Rn r 41 569 [l0, l1, l2, l3, some (vL y), l5] [] h Q ↔ Rn r 41 571 [l0, l1, l2, l3, some (vL y), l5] [vL y] h Q := Rn_nx pg41 rfl rfl
theorem sX6_readStatement_571 : Rn r 41 571 [l0, l1, l2, l3, l4, l5] [vL y0] h Q ↔ Rn r 41 574 [l0, l1, l2, l3, l4, l5] [vL 7501166, vL y0] h Q := Rn_nx pg41 rfl rfl
theorem sX6_readStatement_574 : Rn r 41 574 [l0, l1, l2, l3, l4, l5] [vL y0, vL y1] h Q ↔ Rn r 41 575 [l0, l1, l2, l3, l4, l5] [vI (lg_cmp y1 y0)] h Q := Rn_nx pg41 rfl rfl
theorem sX6_readStatement_575 : Rn r 41 575 [l0, l1, l2, l3, l4, l5] [vI x0] h Q ↔ if x0 ≠ 0 then Rn r 41 629 [l0, l1, l2, l3, l4, l5] [] h Q else Rn r 41 578 [l0, l1, l2, l3, l4, l5] [] h Q := Rn_if pg41 rfl rfl rfl
theorem sX6_readStatement_578 : Rn r 41 578 [some (vR z), l1, l2, l3, l4, l5] [] h Q ↔ Rn r 41 579 [some (vR z), l1, l2, l3, l4, l5] [vR z] h Q := Rn_nx pg41 rfl rfl
theorem sX6_readStatement_579 (hk : hK h a0 = 15) : Rn r 41 579 [l0, l1, l2, l3, l4, l5] [vR (some a0)] h Q ↔ Rn r 41 582 [l0, l1, l2, l3, l4, l5] [vR (hR h a0 20)] h Q := Rn_nx pg41 rfl (if_pos ⟨(hk ▸ Nat.le_refl _), (hk ▸ Nat.le_refl _)⟩)
theorem sX6_readStatement_582 : Rn r 41 582 [l0, l1, some (vI x), l3, l4, l5] [vR z0] h Q ↔ Rn r 41 583 [l0, l1, some (vI x), l3, l4, l5] [vI x, vR z0] h Q := Rn_nx pg41 rfl rfl
theorem sX6_readStatement_583 : Rn r 41 583 [l0, l1, l2, l3, some (vL y), l5] [vI x0, vR z1] h Q ↔ Rn r 41 585 [l0, l1, l2, l3, some (vL y), l5] [vL y, vI x0, vR z1] h Q := Rn_nx pg41 rfl rfl
theorem sX6_readStatement_585 : Rn r 41 585 [l0, l1, l2, l3, l4, l5] [vL y0, vI x1, vR z2] h Q ↔ Rn r 41 588 [l0, l1, l2, l3, l4, l5] [vL 26982, vL y0, vI x1, vR z2] h Q := Rn_nx pg41 rfl rfl
theorem sX6_readStatement_588 : Rn r 41 588 [l0, l1, l2, l3, l4, l5] [vL y0, vL y1, vI x2, vR z3] h Q ↔ Rn r 41 589 [l0, l1, l2, l3, l4, l5] [vI (lg_cmp y1 y0), vI x2, vR z3] h Q := Rn_nx pg41 rfl rfl
theorem sX6_readStatement_589 : Rn r 41 589 [l0, l1, l2, l3, l4, l5] [vI x0, vI x1, vR z2] h Q ↔ if x0 ≠ 0 then Rn r 41 596 [l0, l1, l2, l3, l4, l5] [vI x1, vR z2] h Q else Rn r 41 592 [l0, l1, l2, l3, l4, l5] [vI x1, vR z2] h Q := Rn_if pg41 rfl rfl rfl
theorem sX6_readStatement_592 : Rn r 41 592 [l0, l1, l2, l3, l4, l5] [vI x0, vR z1] h Q ↔ Rn r 41 593 [l0, l1, l2, l3, l4, l5] [vI 4, vI x0, vR z1] h Q := Rn_nx pg41 rfl rfl
theorem sX6_readStatement_593 : Rn r 41 593 [l0, l1, l2, l3, l4, l5] [vI x0, vI x1, vR z2] h Q ↔ Rn r 41 598 [l0, l1, l2, l3, l4, l5] [vI x0, vI x1, vR z2] h Q := Rn_nx pg41 rfl rfl
theorem sX6_readStatement_596 : Rn r 41 596 [l0, l1, l2, l3, l4, l5] [vI x0, vR z1] h Q ↔ Rn r 41 598 [l0, l1, l2, l3, l4, l5] [vI 10, vI x0, vR z1] h Q := Rn_nx pg41 rfl rfl
theorem sX6_readStatement_598 (hk : hK h a2 = 40) (hx : ¬ (x1 < 0 ∨ hL h a2 ≤ x1.toNatClampNeg)) : Rn r 41 598 [l0, l1, l2, l3, l4, l5] [vI x0, vI x1, vR (some a2)] h Q ↔ Rn r 41 599 [l0, l1, l2, l3, l4, l5] [] (putI h a2 x1.toNatClampNeg x0) Q := Rn_nx pg41 rfl ((if_pos hk).trans (if_neg hx))
theorem sX6_readStatement_599 : Rn r 41 599 [some (vR z), l1, l2, l3, l4, l5] [] h Q ↔ Rn r 41 600 [some (vR z), l1, l2, l3, l4, l5] [vR z] h Q := Rn_nx pg41 rfl rfl
theorem sX6_readStatement_600 (hk : hK h a0 = 15) : Rn r 41 600 [l0, l1, l2, l3, l4, l5] [vR (some a0)] h Q ↔ Rn r 41 603 [l0, l1, l2, l3, l4, l5] [vR (hR h a0 27)] h Q := Rn_nx pg41 rfl (if_pos ⟨(hk ▸ Nat.le_refl _), (hk ▸ Nat.le_refl _)⟩)
theorem sX6_readStatement_603 : Rn r 41 603 [l0, l1, some (vI x), l3, l4, l5] [vR z0] h Q ↔ Rn r 41 604 [l0, l1, some (vI x), l3, l4, l5] [vI x, vR z0] h Q := Rn_nx pg41 rfl rfl
theorem sX6_readStatement_604 : Rn r 41 604 [some (vR z), l1, l2, l3, l4, l5] [vI x0, vR z1] h Q ↔ Rn r 41 605 [some (vR z), l1, l2, l3, l4, l5] [vR z, vI x0, vR z1] h Q := Rn_nx pg41 rfl rfl
theorem sX6_readStatement_605 : Rn r 41 605 [l0, l1, l2, l3, some (vL y), l5] [vR z0, vI x1, vR z2] h Q ↔ Rn r 41 607 [l0, l1, l2, l3, some (vL y), l5] [vL y, vR z0, vI x1, vR z2] h Q := Rn_nx pg41 rfl rfl
theorem sX6_readStatement_607 : Rn r 41 607 [l0, l1, l2, l3, l4, l5] [vL y0, vR z1, vI x2, vR z3] h Q ↔ Rn r 41 610 [l0, l1, l2, l3, l4, l5] [vL 26982, vL y0, vR z1, vI x2, vR z3] h Q := Rn_nx pg41 rfl rfl
theorem sX6_readStatement_610 : Rn r 41 610 [l0, l1, l2, l3, l4, l5] [vL y0, vL y1, vR z2, vI x3, vR z4] h Q ↔ Rn r 41 611 [l0, l1, l2, l3, l4, l5] [vI (lg_cmp y1 y0), vR z2, vI x3, vR z4] h Q := Rn_nx pg41 rfl rfl
theorem sX6_readStatement_611 : Rn r 41 611 [l0, l1, l2, l3, l4, l5] [vI x0, vR z1, vI x2, vR z3] h Q ↔ if x0 ≠ 0 then Rn r 41 618 [l0, l1, l2, l3, l4, l5] [vR z1, vI x2, vR z3] h Q else Rn r 41 614 [l0, l1, l2, l3, l4, l5] [vR z1, vI x2, vR z3] h Q := Rn_if pg41 rfl rfl rfl
theorem sX6_readStatement_614 : Rn r 41 614 [l0, l1, l2, l3, l4, l5] [vR z0, vI x1, vR z2] h Q ↔ Rn r 41 615 [l0, l1, l2, l3, l4, l5] [vI 2, vR z0, vI x1, vR z2] h Q := Rn_nx pg41 rfl rfl
theorem sX6_readStatement_615 : Rn r 41 615 [l0, l1, l2, l3, l4, l5] [vI x0, vR z1, vI x2, vR z3] h Q ↔ Rn r 41 620 [l0, l1, l2, l3, l4, l5] [vI x0, vR z1, vI x2, vR z3] h Q := Rn_nx pg41 rfl rfl
theorem sX6_readStatement_618 : Rn r 41 618 [l0, l1, l2, l3, l4, l5] [vR z0, vI x1, vR z2] h Q ↔ Rn r 41 620 [l0, l1, l2, l3, l4, l5] [vI 8, vR z0, vI x1, vR z2] h Q := Rn_nx pg41 rfl rfl
theorem sX6_readStatement_620 : Rn r 41 620 [l0, l1, some (vI x), l3, l4, l5] [vI x0, vR z1, vI x2, vR z3] h Q ↔ Rn r 41 621 [l0, l1, some (vI x), l3, l4, l5] [vI x, vI x0, vR z1, vI x2, vR z3] h Q := Rn_nx pg41 rfl rfl
theorem sX6_readStatement_621 : Rn r 41 621 [l0, l1, l2, l3, l4, l5] [vI x0, vI x1, vR z2, vI x3, vR z4] h Q ↔ Rn r 41 622 [l0, l1, l2, l3, l4, l5] [vI 0, vI x0, vI x1, vR z2, vI x3, vR z4] h Q := Rn_nx pg41 rfl rfl
theorem sX6_readStatement_622 (hk : hK h a3 = 15) : Rn r 41 622 [l0, l1, l2, l3, l4, l5] [vI x0, vI x1, vI x2, vR (some a3), vI x4, vR z5] h Q ↔ Cl r 91 [vR (some a3), vI x2, vI x1, vI x0] h (Kt r 41 625 [l0, l1, l2, l3, l4, l5] [vI x4, vR z5] Q) := Rn_call pg41 rfl (by simp only [am_exec, am_inv, am_pop, am_lk, hk]; rfl) pg91 rfl rfl rfl
theorem sX6_readStatement_625 (hk : hK h a2 = 40) (hx : ¬ (x1 < 0 ∨ hL h a2 ≤ x1.toNatClampNeg)) : Rn r 41 625 [l0, l1, l2, l3, l4, l5] [vI x0, vI x1, vR (some a2)] h Q ↔ Rn r 41 626 [l0, l1, l2, l3, l4, l5] [] (putI h a2 x1.toNatClampNeg x0) Q := Rn_nx pg41 rfl ((if_pos hk).trans (if_neg hx))
theorem sX6_readStatement_626 : Rn r 41 626 [l0, l1, l2, l3, l4, l5] [] h Q ↔ Rn r 41 725 [l0, l1, l2, l3, l4, l5] [] h Q := Rn_nx pg41 rfl rfl
theorem sX6_readStatement_629 : Rn r 41 629 [l0, l1, l2, l3, some (vL y), l5] [] h Q ↔ Rn r 41 631 [l0, l1, l2, l3, some (vL y), l5] [vL y] h Q := Rn_nx pg41 rfl rfl
theorem sX6_readStatement_631 : Rn r 41 631 [l0, l1, l2, l3, l4, l5] [vL y0] h Q ↔ Rn r 41 634 [l0, l1, l2, l3, l4, l5] [vL 512852847717, vL y0] h Q := Rn_nx pg41 rfl rfl
theorem sX6_readStatement_634 : Rn r 41 634 [l0, l1, l2, l3, l4, l5] [vL y0, vL y1] h Q ↔ Rn r 41 635 [l0, l1, l2, l3, l4, l5] [vI (lg_cmp y1 y0)] h Q := Rn_nx pg41 rfl rfl
theorem sX6_readStatement_635 : Rn r 41 635 [l0, l1, l2, l3, l4, l5] [vI x0] h Q ↔ if x0 = 0 then Rn r 41 647 [l0, l1, l2, l3, l4, l5] [] h Q else Rn r 41 638 [l0, l1, l2, l3, l4, l5] [] h Q := Rn_if pg41 rfl rfl rfl
theorem sX6_readStatement_638 : Rn r 41 638 [l0, l1, l2, l3, some (vL y), l5] [] h Q ↔ Rn r 41 640 [l0, l1, l2, l3, some (vL y), l5] [vL y] h Q := Rn_nx pg41 rfl rfl
theorem sX6_readStatement_640 : Rn r 41 640 [l0, l1, l2, l3, l4, l5] [vL y0] h Q ↔ Rn r 41 643 [l0, l1, l2, l3, l4, l5] [vL 1819242352, vL y0] h Q := Rn_nx pg41 rfl rfl
theorem sX6_readStatement_643 : Rn r 41 643 [l0, l1, l2, l3, l4, l5] [vL y0, vL y1] h Q ↔ Rn r 41 644 [l0, l1, l2, l3, l4, l5] [vI (lg_cmp y1 y0)] h Q := Rn_nx pg41 rfl rfl
theorem sX6_readStatement_644 : Rn r 41 644 [l0, l1, l2, l3, l4, l5] [vI x0] h Q ↔ if x0 ≠ 0 then Rn r 41 684 [l0, l1, l2, l3, l4, l5] [] h Q else Rn r 41 647 [l0, l1, l2, l3, l4, l5] [] h Q := Rn_if pg41 rfl rfl rfl
theorem sX6_readStatement_647 : Rn r 41 647 [some (vR z), l1, l2, l3, l4, l5] [] h Q ↔ Rn r 41 648 [some (vR z), l1, l2, l3, l4, l5] [vR z] h Q := Rn_nx pg41 rfl rfl
theorem sX6_readStatement_648 (hk : hK h a0 = 15) : Rn r 41 648 [l0, l1, l2, l3, l4, l5] [vR (some a0)] h Q ↔ Rn r 41 651 [l0, l1, l2, l3, l4, l5] [vR (hR h a0 20)] h Q := Rn_nx pg41 rfl (if_pos ⟨(hk ▸ Nat.le_refl _), (hk ▸ Nat.le_refl _)⟩)
theorem sX6_readStatement_651 : Rn r 41 651 [l0, l1, some (vI x), l3, l4, l5] [vR z0] h Q ↔ Rn r 41 652 [l0, l1, some (vI x), l3, l4, l5] [vI x, vR z0] h Q := Rn_nx pg41 rfl rfl
theorem sX6_readStatement_652 : Rn r 41 652 [l0, l1, l2, l3, some (vL y), l5] [vI x0, vR z1] h Q ↔ Rn r 41 654 [l0, l1, l2, l3, some (vL y), l5] [vL y, vI x0, vR z1] h Q := Rn_nx pg41 rfl rfl
theorem sX6_readStatement_654 : Rn r 41 654 [l0, l1, l2, l3, l4, l5] [vL y0, vI x1, vR z2] h Q ↔ Rn r 41 657 [l0, l1, l2, l3, l4, l5] [vL 512852847717, vL y0, vI x1, vR z2] h Q := Rn_nx pg41 rfl rfl
theorem sX6_readStatement_657 : Rn r 41 657 [l0, l1, l2, l3, l4, l5] [vL y0, vL y1, vI x2, vR z3] h Q ↔ Rn r 41 658 [l0, l1, l2, l3, l4, l5] [vI (lg_cmp y1 y0), vI x2, vR z3] h Q := Rn_nx pg41 rfl rfl
theorem sX6_readStatement_658 : Rn r 41 658 [l0, l1, l2, l3, l4, l5] [vI x0, vI x1, vR z2] h Q ↔ if x0 ≠ 0 then Rn r 41 665 [l0, l1, l2, l3, l4, l5] [vI x1, vR z2] h Q else Rn r 41 661 [l0, l1, l2, l3, l4, l5] [vI x1, vR z2] h Q := Rn_if pg41 rfl rfl rfl
theorem sX6_readStatement_661 : Rn r 41 661 [l0, l1, l2, l3, l4, l5] [vI x0, vR z1] h Q ↔ Rn r 41 662 [l0, l1, l2, l3, l4, l5] [vI 5, vI x0, vR z1] h Q := Rn_nx pg41 rfl rfl
theorem sX6_readStatement_662 : Rn r 41 662 [l0, l1, l2, l3, l4, l5] [vI x0, vI x1, vR z2] h Q ↔ Rn r 41 667 [l0, l1, l2, l3, l4, l5] [vI x0, vI x1, vR z2] h Q := Rn_nx pg41 rfl rfl
theorem sX6_readStatement_665 : Rn r 41 665 [l0, l1, l2, l3, l4, l5] [vI x0, vR z1] h Q ↔ Rn r 41 667 [l0, l1, l2, l3, l4, l5] [vI 6, vI x0, vR z1] h Q := Rn_nx pg41 rfl rfl
theorem sX6_readStatement_667 (hk : hK h a2 = 40) (hx : ¬ (x1 < 0 ∨ hL h a2 ≤ x1.toNatClampNeg)) : Rn r 41 667 [l0, l1, l2, l3, l4, l5] [vI x0, vI x1, vR (some a2)] h Q ↔ Rn r 41 668 [l0, l1, l2, l3, l4, l5] [] (putI h a2 x1.toNatClampNeg x0) Q := Rn_nx pg41 rfl ((if_pos hk).trans (if_neg hx))
theorem sX6_readStatement_668 : Rn r 41 668 [some (vR z), l1, l2, l3, l4, l5] [] h Q ↔ Rn r 41 669 [some (vR z), l1, l2, l3, l4, l5] [vR z] h Q := Rn_nx pg41 rfl rfl
theorem sX6_readStatement_669 (hk : hK h a0 = 15) : Rn r 41 669 [l0, l1, l2, l3, l4, l5] [vR (some a0)] h Q ↔ Rn r 41 672 [l0, l1, l2, l3, l4, l5] [vR (hR h a0 27)] h Q := Rn_nx pg41 rfl (if_pos ⟨(hk ▸ Nat.le_refl _), (hk ▸ Nat.le_refl _)⟩)
theorem sX6_readStatement_672 : Rn r 41 672 [l0, l1, some (vI x), l3, l4, l5] [vR z0] h Q ↔ Rn r 41 673 [l0, l1, some (vI x), l3, l4, l5] [vI x, vR z0] h Q := Rn_nx pg41 rfl rfl
theorem sX6_readStatement_673 : Rn r 41 673 [some (vR z), l1, l2, l3, l4, l5] [vI x0, vR z1] h Q ↔ Rn r 41 674 [some (vR z), l1, l2, l3, l4, l5] [vR z, vI x0, vR z1] h Q := Rn_nx pg41 rfl rfl
theorem sX6_readStatement_674 : Rn r 41 674 [l0, l1, l2, l3, l4, l5] [vR z0, vI x1, vR z2] h Q ↔ Rn r 41 675 [l0, l1, l2, l3, l4, l5] [vI 4, vR z0, vI x1, vR z2] h Q := Rn_nx pg41 rfl rfl
theorem sX6_readStatement_675 : Rn r 41 675 [l0, l1, some (vI x), l3, l4, l5] [vI x0, vR z1, vI x2, vR z3] h Q ↔ Rn r 41 676 [l0, l1, some (vI x), l3, l4, l5] [vI x, vI x0, vR z1, vI x2, vR z3] h Q := Rn_nx pg41 rfl rfl
theorem sX6_readStatement_676 : Rn r 41 676 [l0, l1, l2, l3, l4, l5] [vI x0, vI x1, vR z2, vI x3, vR z4] h Q ↔ Rn r 41 677 [l0, l1, l2, l3, l4, l5] [vI 0, vI x0, vI x1, vR z2, vI x3, vR z4] h Q := Rn_nx pg41 rfl rfl
theorem sX6_readStatement_677 (hk : hK h a3 = 15) : Rn r 41 677 [l0, l1, l2, l3, l4, l5] [vI x0, vI x1, vI x2, vR (some a3), vI x4, vR z5] h Q ↔ Cl r 91 [vR (some a3), vI x2, vI x1, vI x0] h (Kt r 41 680 [l0, l1, l2, l3, l4, l5] [vI x4, vR z5] Q) := Rn_call pg41 rfl (by simp only [am_exec, am_inv, am_pop, am_lk, hk]; rfl) pg91 rfl rfl rfl
theorem sX6_readStatement_680 (hk : hK h a2 = 40) (hx : ¬ (x1 < 0 ∨ hL h a2 ≤ x1.toNatClampNeg)) : Rn r 41 680 [l0, l1, l2, l3, l4, l5] [vI x0, vI x1, vR (some a2)] h Q ↔ Rn r 41 681 [l0, l1, l2, l3, l4, l5] [] (putI h a2 x1.toNatClampNeg x0) Q := Rn_nx pg41 rfl ((if_pos hk).trans (if_neg hx))
theorem sX6_readStatement_681 : Rn r 41 681 [l0, l1, l2, l3, l4, l5] [] h Q ↔ Rn r 41 725 [l0, l1, l2, l3, l4, l5] [] h Q := Rn_nx pg41 rfl rfl
theorem sX6_readStatement_684 : Rn r 41 684 [some (vR z), l1, l2, l3, l4, l5] [] h Q ↔ Rn r 41 685 [some (vR z), l1, l2, l3, l4, l5] [vR z] h Q := Rn_nx pg41 rfl rfl
theorem sX6_readStatement_685 (hk : hK h a0 = 15) : Rn r 41 685 [l0, l1, l2, l3, l4, l5] [vR (some a0)] h Q ↔ Rn r 41 688 [l0, l1, l2, l3, l4, l5] [vR (hR h a0 20)] h Q := Rn_nx pg41 rfl (if_pos ⟨(hk ▸ Nat.le_refl _), (hk ▸ Nat.le_refl _)⟩)
theorem sX6_readStatement_688 : Rn r 41 688 [l0, l1, some (vI x), l3, l4, l5] [vR z0] h Q ↔ Rn r 41 689 [l0, l1, some (vI x), l3, l4, l5] [vI x, vR z0] h Q := Rn_nx pg41 rfl rfl
theorem sX6_readStatement_689 : Rn r 41 689 [l0, l1, l2, l3, l4, l5] [vI x0, vR z1] h Q ↔ Rn r 41 691 [l0, l1, l2, l3, l4, l5] [vI 9, vI x0, vR z1] h Q := Rn_nx pg41 rfl rfl
theorem sX6_readStatement_691 (hk : hK h a2 = 40) (hx : ¬ (x1 < 0 ∨ hL h a2 ≤ x1.toNatClampNeg)) : Rn r 41 691 [l0, l1, l2, l3, l4, l5] [vI x0, vI x1, vR (some a2)] h Q ↔ Rn r 41 692 [l0, l1, l2, l3, l4, l5] [] (putI h a2 x1.toNatClampNeg x0) Q := Rn_nx pg41 rfl ((if_pos hk).trans (if_neg hx))
theorem sX6_readStatement_692 : Rn r 41 692 [some (vR z), l1, l2, l3, l4, l5] [] h Q ↔ Rn r 41 693 [some (vR z), l1, l2, l3, l4, l5] [vR z] h Q := Rn_nx pg41 rfl rfl
theorem sX6_readStatement_693 (hk : hK h a0 = 15) : Rn r 41 693 [l0, l1, l2, l3, l4, l5] [vR (some a0)] h Q ↔ Rn r 41 696 [l0, l1, l2, l3, l4, l5] [vI (hI h a0 51)] h Q := Rn_nx pg41 rfl (if_pos ⟨(hk ▸ Nat.le_refl _), (hk ▸ Nat.le_refl _)⟩)
theorem sX6_readStatement_696 : Rn r 41 696 [l0, l1, l2, l3, l4, l5] [vI x0] h Q ↔ Rn r 41 698 [l0, l1, l2, l3, l4, l5] [vI 40, vI x0] h Q := Rn_nx pg41 rfl rfl
theorem sX6_readStatement_698 : Rn r 41 698 [l0, l1, l2, l3, l4, l5] [vI x0, vI x1] h Q ↔ if x1 ≠ x0 then Rn r 41 712 [l0, l1, l2, l3, l4, l5] [] h Q else Rn r 41 701 [l0, l1, l2, l3, l4, l5] [] h Q := Rn_if pg41 rfl rfl rfl
theorem sX6_readStatement_701 : Rn r 41 701 [some (vR z), l1, l2, l3, l4, l5] [] h Q ↔ Rn r 41 702 [some (vR z), l1, l2, l3, l4, l5] [vR z] h Q := Rn_nx pg41 rfl rfl
theorem sX6_readStatement_702 : Rn r 41 702 [l0, l1, some (vI x), l3, l4, l5] [vR z0] h Q ↔ Rn r 41 703 [l0, l1, some (vI x), l3, l4, l5] [vI x, vR z0] h Q := Rn_nx pg41 rfl rfl
theorem sX6_readStatement_703 : Rn r 41 703 [l0, l1, l2, l3, l4, l5] [vI x0, vR z1] h Q ↔ Rn r 41 705 [l0, l1, l2, l3, l4, l5] [vI 41, vI x0, vR z1] h Q := Rn_nx pg41 rfl rfl
theorem sX6_readStatement_705 (hk : hK h a2 = 15) : Rn r 41 705 [l0, l1, l2, l3, l4, l5] [vI x0, vI x1, vR (some a2)] h Q ↔ Cl r 92 [vR (some a2), vI x1, vI x0] h (Kt r 41 708 [l0, l1, l2, l3, l4, l5] [] Q) := Rn_call pg41 rfl (by simp only [am_exec, am_inv, am_pop, am_lk, hk]; rfl) pg92 rfl rfl rfl
theorem sX6_readStatement_708 : Rn r 41 708 [l0, l1, l2, l3, l4, l5] [vI x0] h Q ↔ if x0 ≠ 0 then Rn r 41 712 [l0, l1, l2, l3, l4, l5] [] h Q else Rn r 41 711 [l0, l1, l2, l3, l4, l5] [] h Q := Rn_if pg41 rfl rfl rfl
theorem sX6_readStatement_711 : Rn r 41 711 [l0, l1, l2, l3, l4, l5] [] h Q ↔ Q (Sum.inl none) h := Rn_end pg41 rfl rfl
theorem sX6_readStatement_712 : Rn r 41 712 [some (vR z), l1, l2, l3, l4, l5] [] h Q ↔ Rn r 41 713 [some (vR z), l1, l2, l3, l4, l5] [vR z] h Q := Rn_nx pg41 rfl rfl
theorem sX6_readStatement_713 (hk : hK h a0 = 15) : Rn r 41 713 [l0, l1, l2, l3, l4, l5] [vR (some a0)] h Q ↔ Rn r 41 716 [l0, l1, l2, l3, l4, l5] [vR (hR h a0 27)] h Q := Rn_nx pg41 rfl (if_pos ⟨(hk ▸ Nat.le_refl _), (hk ▸ Nat.le_refl _)⟩)
theorem sX6_readStatement_716 : Rn r 41 716 [l0, l1, some (vI x), l3, l4, l5] [vR z0] h Q ↔ Rn r 41 717 [l0, l1, some (vI x), l3, l4, l5] [vI x, vR z0] h Q := Rn_nx pg41 rfl rfl
theorem sX6_readStatement_717 : Rn r 41 717 [some (vR z), l1, l2, l3, l4, l5] [vI x0, vR z1] h Q ↔ Rn r 41 718 [some (vR z), l1, l2, l3, l4, l5] [vR z, vI x0, vR z1] h Q := Rn_nx pg41 rfl rfl
theorem sX6_readStatement_718 : Rn r 41 718 [l0, l1, l2, l3, l4, l5] [vR z0, vI x1, vR z2] h Q ↔ Rn r 41 719 [l0, l1, l2, l3, l4, l5] [vI 5, vR z0, vI x1, vR z2] h Q := Rn_nx pg41 rfl rfl
theorem sX6_readStatement_719 : Rn r 41 719 [l0, l1, some (vI x), l3, l4, l5] [vI x0, vR z1, vI x2, vR z3] h Q ↔ Rn r 41 720 [l0, l1, some (vI x), l3, l4, l5] [vI x, vI x0, vR z1, vI x2, vR z3] h Q := Rn_nx pg41 rfl rfl
theorem sX6_readStatement_720 : Rn r 41 720 [l0, l1, l2, l3, l4, l5] [vI x0, vI x1, vR z2, vI x3, vR z4] h Q ↔ Rn r 41 721 [l0, l1, l2, l3, l4, l5] [vI 0, vI x0, vI x1, vR z2, vI x3, vR z4] h Q := Rn_nx pg41 rfl rfl
theorem sX6_readStatement_721 (hk : hK h a3 = 15) : Rn r 41 721 [l0, l1, l2, l3, l4, l5] [vI x0, vI x1, vI x2, vR (some a3), vI x4, vR z5] h Q ↔ Cl r 91 [vR (some a3), vI x2, vI x1, vI x0] h (Kt r 41 724 [l0, l1, l2, l3, l4, l5] [vI x4, vR z5] Q) := Rn_call pg41 rfl (by simp only [am_exec, am_inv, am_pop, am_lk, hk]; rfl) pg91 rfl rfl rfl
theorem sX6_readStatement_724 (hk : hK h a2 = 40) (hx : ¬ (x1 < 0 ∨ hL h a2 ≤ x1.toNatClampNeg)) : Rn r 41 724 [l0, l1, l2, l3, l4, l5] [vI x0, vI x1, vR (some a2)] h Q ↔ Rn r 41 725 [l0, l1, l2, l3, l4, l5] [] (putI h a2 x1.toNatClampNeg x0) Q := Rn_nx pg41 rfl ((if_pos hk).trans (if_neg hx))
theorem sX6_readStatement_725 : Rn r 41 725 [l0, l1, l2, l3, l4, l5] [] h Q ↔ Q (Sum.inl none) h := Rn_end pg41 rfl rfl
/-! 42 ThrowRulesModel.judge()V -/
theorem eX6_judge : Cl r 42 [vR z0] h Q ↔ Rn r 42 0 [some (vR z0), none, none, none, none] [] h Q := Cl_in pg42 rfl
theorem sX6_judge_0 : Rn r 42 0 [some (vR z), l1, l2, l3, l4] [] h Q ↔ Rn r 42 1 [some (vR z), l1, l2, l3, l4] [vR z] h Q := Rn_nx pg42 rfl rfl
theorem sX6_judge_1 (hk : hK h a0 = 15) : Rn r 42 1 [l0, l1, l2, l3, l4] [vR (some a0)] h Q ↔ Rn r 42 4 [l0, l1, l2, l3, l4] [vR (hR h a0 19)] h Q := Rn_nx pg42 rfl (if_pos ⟨(hk ▸ Nat.le_refl _), (hk ▸ Nat.le_refl _)⟩)
theorem sX6_judge_4 : Rn r 42 4 [some (vR z), l1, l2, l3, l4] [vR z0] h Q ↔ Rn r 42 5 [some (vR z), l1, l2, l3, l4] [vR z, vR z0] h Q := Rn_nx pg42 rfl rfl
theorem sX6_judge_5 (hk : hK h a0 = 15) : Rn r 42 5 [l0, l1, l2, l3, l4] [vR (some a0), vR z1] h Q ↔ Rn r 42 8 [l0, l1, l2, l3, l4] [vI (hI h a0 2), vR z1] h Q := Rn_nx pg42 rfl (if_pos ⟨(hk ▸ Nat.le_refl _), (hk ▸ Nat.le_refl _)⟩)
theorem sX6_judge_8 (hk : 40 ≤ hK h a1) (hk2 : hK h a1 ≤ 41) (hx : ¬ (x0 < 0 ∨ hL h a1 ≤ x0.toNatClampNeg)) : Rn r 42 8 [l0, l1, l2, l3, l4] [vI x0, vR (some a1)] h Q ↔ Rn r 42 9 [l0, l1, l2, l3, l4] [vI (hI h a1 x0.toNatClampNeg)] h Q := Rn_nx pg42 rfl ((if_pos ⟨hk, hk2⟩).trans (if_neg hx))
theorem sX6_judge_9 : Rn r 42 9 [l0, l1, l2, l3, l4] [vI x0] h Q ↔ Rn r 42 10 [l0, l1, l2, l3, l4] [vI 1, vI x0] h Q := Rn_nx pg42 rfl rfl
theorem sX6_judge_10 : Rn r 42 10 [l0, l1, l2, l3, l4] [vI x0, vI x1] h Q ↔ Rn r 42 11 [l0, l1, l2, l3, l4] [vI (x1 - x0)] h Q := Rn_nx pg42 rfl rfl
theorem sX6_judge_11 : Rn r 42 11 [l0, l1, l2, l3, l4] [vI x0] h Q ↔ Rn r 42 12 [l0, some (vI x0), l2, l3, l4] [] h Q := Rn_nx pg42 rfl rfl
theorem sX6_judge_12 : Rn r 42 12 [l0, some (vI x), l2, l3, l4] [] h Q ↔ Rn r 42 13 [l0, some (vI x), l2, l3, l4] [vI x] h Q := Rn_nx pg42 rfl rfl
theorem sX6_judge_13 : Rn r 42 13 [l0, l1, l2, l3, l4] [vI x0] h Q ↔ if x0 < 0 then Rn r 42 64 [l0, l1, l2, l3, l4] [] h Q else Rn r 42 16 [l0, l1, l2, l3, l4] [] h Q := Rn_if pg42 rfl rfl rfl
theorem sX6_judge_16 : Rn r 42 16 [some (vR z), l1, l2, l3, l4] [] h Q ↔ Rn r 42 17 [some (vR z), l1, l2, l3, l4] [vR z] h Q := Rn_nx pg42 rfl rfl
theorem sX6_judge_17 (hk : hK h a0 = 15) : Rn r 42 17 [l0, l1, l2, l3, l4] [vR (some a0)] h Q ↔ Rn r 42 20 [l0, l1, l2, l3, l4] [vR (hR h a0 59)] h Q := Rn_nx pg42 rfl (if_pos ⟨(hk ▸ Nat.le_refl _), (hk ▸ Nat.le_refl _)⟩)
theorem sX6_judge_20 : Rn r 42 20 [some (vR z), l1, l2, l3, l4] [vR z0] h Q ↔ Rn r 42 21 [some (vR z), l1, l2, l3, l4] [vR z, vR z0] h Q := Rn_nx pg42 rfl rfl
theorem sX6_judge_21 (hk : hK h a0 = 15) : Rn r 42 21 [l0, l1, l2, l3, l4] [vR (some a0), vR z1] h Q ↔ Rn r 42 24 [l0, l1, l2, l3, l4] [vI (hI h a0 2), vR z1] h Q := Rn_nx pg42 rfl (if_pos ⟨(hk ▸ Nat.le_refl _), (hk ▸ Nat.le_refl _)⟩)
theorem sX6_judge_24 : Rn r 42 24 [l0, l1, l2, l3, l4] [vI x0, vR z1] h Q ↔ Rn r 42 26 [l0, l1, l2, l3, l4] [vI 120, vI x0, vR z1] h Q := Rn_nx pg42 rfl rfl
theorem sX6_judge_26 : Rn r 42 26 [l0, l1, l2, l3, l4] [vI x0, vI x1, vR z2] h Q ↔ Rn r 42 27 [l0, l1, l2, l3, l4] [vI (x1 * x0), vR z2] h Q := Rn_nx pg42 rfl rfl
theorem sX6_judge_27 : Rn r 42 27 [l0, some (vI x), l2, l3, l4] [vI x0, vR z1] h Q ↔ Rn r 42 28 [l0, some (vI x), l2, l3, l4] [vI x, vI x0, vR z1] h Q := Rn_nx pg42 rfl rfl
theorem sX6_judge_28 : Rn r 42 28 [l0, l1, l2, l3, l4] [vI x0, vI x1, vR z2] h Q ↔ Rn r 42 29 [l0, l1, l2, l3, l4] [vI (x1 + x0), vR z2] h Q := Rn_nx pg42 rfl rfl
theorem sX6_judge_29 : Rn r 42 29 [some (vR z), l1, l2, l3, l4] [vI x0, vR z1] h Q ↔ Rn r 42 30 [some (vR z), l1, l2, l3, l4] [vR z, vI x0, vR z1] h Q := Rn_nx pg42 rfl rfl
theorem sX6_judge_30 : Rn r 42 30 [some (vR z), l1, l2, l3, l4] [vR z0, vI x1, vR z2] h Q ↔ Rn r 42 31 [some (vR z), l1, l2, l3, l4] [vR z, vR z0, vI x1, vR z2] h Q := Rn_nx pg42 rfl rfl
theorem sX6_judge_31 (hk : hK h a0 = 15) : Rn r 42 31 [l0, l1, l2, l3, l4] [vR (some a0), vR z1, vI x2, vR z3] h Q ↔ Rn r 42 34 [l0, l1, l2, l3, l4] [vI (hI h a0 2), vR z1, vI x2, vR z3] h Q := Rn_nx pg42 rfl (if_pos ⟨(hk ▸ Nat.le_refl _), (hk ▸ Nat.le_refl _)⟩)
theorem sX6_judge_34 : Rn r 42 34 [l0, l1, l2, l3, l4] [vI x0, vR z1, vI x2, vR z3] h Q ↔ Rn r 42 36 [l0, l1, l2, l3, l4] [vI 120, vI x0, vR z1, vI x2, vR z3] h Q := Rn_nx pg42 rfl rfl
theorem sX6_judge_36 : Rn r 42 36 [l0, l1, l2, l3, l4] [vI x0, vI x1, vR z2, vI x3, vR z4] h Q ↔ Rn r 42 37 [l0, l1, l2, l3, l4] [vI (x1 * x0), vR z2, vI x3, vR z4] h Q := Rn_nx pg42 rfl rfl
theorem sX6_judge_37 : Rn r 42 37 [l0, some (vI x), l2, l3, l4] [vI x0, vR z1, vI x2, vR z3] h Q ↔ Rn r 42 38 [l0, some (vI x), l2, l3, l4] [vI x, vI x0, vR z1, vI x2, vR z3] h Q := Rn_nx pg42 rfl rfl
theorem sX6_judge_38 : Rn r 42 38 [l0, l1, l2, l3, l4] [vI x0, vI x1, vR z2, vI x3, vR z4] h Q ↔ Rn r 42 39 [l0, l1, l2, l3, l4] [vI (x1 + x0), vR z2, vI x3, vR z4] h Q := Rn_nx pg42 rfl rfl
theorem sX6_judge_39 (hk : hK h a1 = 15) : Rn r 42 39 [l0, l1, l2, l3, l4] [vI x0, vR (some a1), vI x2, vR z3] h Q ↔ Cl r 94 [vR (some a1), vI x0] h (Kt r 42 42 [l0, l1, l2, l3, l4] [vI x2, vR z3] Q) := Rn_call pg42 rfl (by simp only [am_exec, am_inv, am_pop, am_lk, hk]; rfl) pg94 rfl rfl rfl
theorem sX6_judge_42 (hk : hK h a2 = 43) (hf : am_fit 4 x0 = true) (hx : ¬ (x1 < 0 ∨ hL h a2 ≤ x1.toNatClampNeg)) : Rn r 42 42 [l0, l1, l2, l3, l4] [vI x0, vI x1, vR (some a2)] h Q ↔ Rn r 42 43 [l0, l1, l2, l3, l4] [] (putI h a2 x1.toNatClampNeg x0) Q := Rn_nx pg42 rfl ((if_pos hk).trans ((if_pos hf).trans (if_neg hx)))
theorem sX6_judge_43 : Rn r 42 43 [some (vR z), l1, l2, l3, l4] [] h Q ↔ Rn r 42 44 [some (vR z), l1, l2, l3, l4] [vR z] h Q := Rn_nx pg42 rfl rfl
theorem sX6_judge_44 (hk : hK h a0 = 15) : Rn r 42 44 [l0, l1, l2, l3, l4] [vR (some a0)] h Q ↔ Rn r 42 47 [l0, l1, l2, l3, l4] [vR (hR h a0 58)] h Q := Rn_nx pg42 rfl (if_pos ⟨(hk ▸ Nat.le_refl _), (hk ▸ Nat.le_refl _)⟩)
theorem sX6_judge_47 : Rn r 42 47 [some (vR z), l1, l2, l3, l4] [vR z0] h Q ↔ Rn r 42 48 [some (vR z), l1, l2, l3, l4] [vR z, vR z0] h Q := Rn_nx pg42 rfl rfl
theorem sX6_judge_48 (hk : hK h a0 = 15) : Rn r 42 48 [l0, l1, l2, l3, l4] [vR (some a0), vR z1] h Q ↔ Rn r 42 51 [l0, l1, l2, l3, l4] [vI (hI h a0 2), vR z1] h Q := Rn_nx pg42 rfl (if_pos ⟨(hk ▸ Nat.le_refl _), (hk ▸ Nat.le_refl _)⟩)
theorem sX6_judge_51 : Rn r 42 51 [l0, l1, l2, l3, l4] [vI x0, vR z1] h Q ↔ Rn r 42 53 [l0, l1, l2, l3, l4] [vI 120, vI x0, vR z1] h Q := Rn_nx pg42 rfl rfl
theorem sX6_judge_53 : Rn r 42 53 [l0, l1, l2, l3, l4] [vI x0, vI x1, vR z2] h Q ↔ Rn r 42 54 [l0, l1, l2, l3, l4] [vI (x1 * x0), vR z2] h Q := Rn_nx pg42 rfl rfl
theorem sX6_judge_54 : Rn r 42 54 [l0, some (vI x), l2, l3, l4] [vI x0, vR z1] h Q ↔ Rn r 42 55 [l0, some (vI x), l2, l3, l4] [vI x, vI x0, vR z1] h Q := Rn_nx pg42 rfl rfl
theorem sX6_judge_55 : Rn r 42 55 [l0, l1, l2, l3, l4] [vI x0, vI x1, vR z2] h Q ↔ Rn r 42 56 [l0, l1, l2, l3, l4] [vI (x1 + x0), vR z2] h Q := Rn_nx pg42 rfl rfl
theorem sX6_judge_56 : Rn r 42 56 [l0, l1, l2, l3, l4] [vI x0, vR z1] h Q ↔ Rn r 42 57 [l0, l1, l2, l3, l4] [vI 0, vI x0, vR z1] h Q := Rn_nx pg42 rfl rfl
theorem sX6_judge_57 (hk : hK h a2 = 40) (hx : ¬ (x1 < 0 ∨ hL h a2 ≤ x1.toNatClampNeg)) : Rn r 42 57 [l0, l1, l2, l3, l4] [vI x0, vI x1, vR (some a2)] h Q ↔ Rn r 42 58 [l0, l1, l2, l3, l4] [] (putI h a2 x1.toNatClampNeg x0) Q := Rn_nx pg42 rfl ((if_pos hk).trans (if_neg hx))
theorem sX6_judge_58 : Rn r 42 58 [l0, some (vI x), l2, l3, l4] [] h Q ↔ Rn r 42 61 [l0, some (vI (x + (-1))), l2, l3, l4] [] h Q := Rn_nx pg42 rfl rfl
theorem sX6_judge_61 : Rn r 42 61 [l0, l1, l2, l3, l4] [] h Q ↔ Rn r 42 12 [l0, l1, l2, l3, l4] [] h Q := Rn_nx pg42 rfl rfl
theorem sX6_judge_64 : Rn r 42 64 [l0, l1, l2, l3, l4] [] h Q ↔ Rn r 42 65 [l0, l1, l2, l3, l4] [vI 1] h Q := Rn_nx pg42 rfl rfl
theorem sX6_judge_65 : Rn r 42 65 [l0, l1, l2, l3, l4] [vI x0] h Q ↔ Rn r 42 66 [l0, some (vI x0), l2, l3, l4] [] h Q := Rn_nx pg42 rfl rfl
theorem sX6_judge_66 : Rn r 42 66 [l0, some (vI x), l2, l3, l4] [] h Q ↔ Rn r 42 67 [l0, some (vI x), l2, l3, l4] [vI x] h Q := Rn_nx pg42 rfl rfl
theorem sX6_judge_67 : Rn r 42 67 [l0, l1, l2, l3, l4] [vI x0] h Q ↔ if x0 = 0 then Rn r 42 143 [l0, l1, l2, l3, l4] [] h Q else Rn r 42 70 [l0, l1, l2, l3, l4] [] h Q := Rn_if pg42 rfl rfl rfl
theorem sX6_judge_70 : Rn r 42 70 [l0, l1, l2, l3, l4] [] h Q ↔ Rn r 42 71 [l0, l1, l2, l3, l4] [vI 0] h Q := Rn_nx pg42 rfl rfl
theorem sX6_judge_71 : Rn r 42 71 [l0, l1, l2, l3, l4] [vI x0] h Q ↔ Rn r 42 72 [l0, some (vI x0), l2, l3, l4] [] h Q := Rn_nx pg42 rfl rfl
theorem sX6_judge_72 : Rn r 42 72 [some (vR z), l1, l2, l3, l4] [] h Q ↔ Rn r 42 73 [some (vR z), l1, l2, l3, l4] [vR z] h Q := Rn_nx pg42 rfl rfl
theorem sX6_judge_73 (hk : hK h a0 = 15) : Rn r 42 73 [l0, l1, l2, l3, l4] [vR (some a0)] h Q ↔ Rn r 42 76 [l0, l1, l2, l3, l4] [vR (hR h a0 19)] h Q := Rn_nx pg42 rfl (if_pos ⟨(hk ▸ Nat.le_refl _), (hk ▸ Nat.le_refl _)⟩)
theorem sX6_judge_76 : Rn r 42 76 [some (vR z), l1, l2, l3, l4] [vR z0] h Q ↔ Rn r 42 77 [some (vR z), l1, l2, l3, l4] [vR z, vR z0] h Q := Rn_nx pg42 rfl rfl
theorem sX6_judge_77 (hk : hK h a0 = 15) : Rn r 42 77 [l0, l1, l2, l3, l4] [vR (some a0), vR z1] h Q ↔ Rn r 42 80 [l0, l1, l2, l3, l4] [vI (hI h a0 2), vR z1] h Q := Rn_nx pg42 rfl (if_pos ⟨(hk ▸ Nat.le_refl _), (hk ▸ Nat.le_refl _)⟩)
theorem sX6_judge_80 (hk : 40 ≤ hK h a1) (hk2 : hK h a1 ≤ 41) (hx : ¬ (x0 < 0 ∨ hL h a1 ≤ x0.toNatClampNeg)) : Rn r 42 80 [l0, l1, l2, l3, l4] [vI x0, vR (some a1)] h Q ↔ Rn r 42 81 [l0, l1, l2, l3, l4] [vI (hI h a1 x0.toNatClampNeg)] h Q := Rn_nx pg42 rfl ((if_pos ⟨hk, hk2⟩).trans (if_neg hx))
theorem sX6_judge_81 : Rn r 42 81 [l0, l1, l2, l3, l4] [vI x0] h Q ↔ Rn r 42 82 [l0, l1, l2, l3, l4] [vI 1, vI x0] h Q := Rn_nx pg42 rfl rfl
theorem sX6_judge_82 : Rn r 42 82 [l0, l1, l2, l3, l4] [vI x0, vI x1] h Q ↔ Rn r 42 83 [l0, l1, l2, l3, l4] [vI (x1 - x0)] h Q := Rn_nx pg42 rfl rfl
theorem sX6_judge_83 : Rn r 42 83 [l0, l1, l2, l3, l4] [vI x0] h Q ↔ Rn r 42 84 [l0, l1, some (vI x0), l3, l4] [] h Q := Rn_nx pg42 rfl rfl
theorem sX6_judge_84 : Rn r 42 84 [l0, l1, some (vI x), l3, l4] [] h Q ↔ Rn r 42 85 [l0, l1, some (vI x), l3, l4] [vI x] h Q := Rn_nx pg42 rfl rfl
theorem sX6_judge_85 : Rn r 42 85 [l0, l1, l2, l3, l4] [vI x0] h Q ↔ if x0 < 0 then Rn r 42 140 [l0, l1, l2, l3, l4] [] h Q else Rn r 42 88 [l0, l1, l2, l3, l4] [] h Q := Rn_if pg42 rfl rfl rfl
theorem sX6_judge_88 : Rn r 42 88 [some (vR z), l1, l2, l3, l4] [] h Q ↔ Rn r 42 89 [some (vR z), l1, l2, l3, l4] [vR z] h Q := Rn_nx pg42 rfl rfl
theorem sX6_judge_89 (hk : hK h a0 = 15) : Rn r 42 89 [l0, l1, l2, l3, l4] [vR (some a0)] h Q ↔ Rn r 42 92 [l0, l1, l2, l3, l4] [vI (hI h a0 2)] h Q := Rn_nx pg42 rfl (if_pos ⟨(hk ▸ Nat.le_refl _), (hk ▸ Nat.le_refl _)⟩)
theorem sX6_judge_92 : Rn r 42 92 [l0, l1, l2, l3, l4] [vI x0] h Q ↔ Rn r 42 94 [l0, l1, l2, l3, l4] [vI 120, vI x0] h Q := Rn_nx pg42 rfl rfl
theorem sX6_judge_94 : Rn r 42 94 [l0, l1, l2, l3, l4] [vI x0, vI x1] h Q ↔ Rn r 42 95 [l0, l1, l2, l3, l4] [vI (x1 * x0)] h Q := Rn_nx pg42 rfl rfl
theorem sX6_judge_95 : Rn r 42 95 [l0, l1, some (vI x), l3, l4] [vI x0] h Q ↔ Rn r 42 96 [l0, l1, some (vI x), l3, l4] [vI x, vI x0] h Q := Rn_nx pg42 rfl rfl
theorem sX6_judge_96 : Rn r 42 96 [l0, l1, l2, l3, l4] [vI x0, vI x1] h Q ↔ Rn r 42 97 [l0, l1, l2, l3, l4] [vI (x1 + x0)] h Q := Rn_nx pg42 rfl rfl
theorem sX6_judge_97 : Rn r 42 97 [l0, l1, l2, l3, l4] [vI x0] h Q ↔ Rn r 42 98 [l0, l1, l2, some (vI x0), l4] [] h Q := Rn_nx pg42 rfl rfl
theorem sX6_judge_98 : Rn r 42 98 [some (vR z), l1, l2, l3, l4] [] h Q ↔ Rn r 42 99 [some (vR z), l1, l2, l3, l4] [vR z] h Q := Rn_nx pg42 rfl rfl
theorem sX6_judge_99 : Rn r 42 99 [l0, l1, l2, some (vI x), l4] [vR z0] h Q ↔ Rn r 42 100 [l0, l1, l2, some (vI x), l4] [vI x, vR z0] h Q := Rn_nx pg42 rfl rfl
theorem sX6_judge_100 (hk : hK h a1 = 15) : Rn r 42 100 [l0, l1, l2, l3, l4] [vI x0, vR (some a1)] h Q ↔ Cl r 95 [vR (some a1), vI x0] h (Kt r 42 103 [l0, l1, l2, l3, l4] [] Q) := Rn_call pg42 rfl (by simp only [am_exec, am_inv, am_pop, am_lk, hk]; rfl) pg95 rfl rfl rfl
theorem sX6_judge_103 : Rn r 42 103 [l0, l1, l2, l3, l4] [vI x0] h Q ↔ Rn r 42 105 [l0, l1, l2, l3, some (vI x0)] [] h Q := Rn_nx pg42 rfl rfl
theorem sX6_judge_105 : Rn r 42 105 [l0, some (vI x), l2, l3, l4] [] h Q ↔ Rn r 42 106 [l0, some (vI x), l2, l3, l4] [vI x] h Q := Rn_nx pg42 rfl rfl
theorem sX6_judge_106 : Rn r 42 106 [l0, l1, l2, l3, l4] [vI x0] h Q ↔ if x0 ≠ 0 then Rn r 42 120 [l0, l1, l2, l3, l4] [] h Q else Rn r 42 109 [l0, l1, l2, l3, l4] [] h Q := Rn_if pg42 rfl rfl rfl
theorem sX6_judge_109 : Rn r 42 109 [l0, l1, l2, l3, some (vI x)] [] h Q ↔ Rn r 42 111 [l0, l1, l2, l3, some (vI x)] [vI x] h Q := Rn_nx pg42 rfl rfl
theorem sX6_judge_111 : Rn r 42 111 [some (vR z), l1, l2, l3, l4] [vI x0] h Q ↔ Rn r 42 112 [some (vR z), l1, l2, l3, l4] [vR z, vI x0] h Q := Rn_nx pg42 rfl rfl
theorem sX6_judge_112 (hk : hK h a0 = 15) : Rn r 42 112 [l0, l1, l2, l3, l4] [vR (some a0), vI x1] h Q ↔ Rn r 42 115 [l0, l1, l2, l3, l4] [vR (hR h a0 58), vI x1] h Q := Rn_nx pg42 rfl (if_pos ⟨(hk ▸ Nat.le_refl _), (hk ▸ Nat.le_refl _)⟩)
theorem sX6_judge_115 : Rn r 42 115 [l0, l1, l2, some (vI x), l4] [vR z0, vI x1] h Q ↔ Rn r 42 116 [l0, l1, l2, some (vI x), l4] [vI x, vR z0, vI x1] h Q := Rn_nx pg42 rfl rfl
theorem sX6_judge_116 (hk : 40 ≤ hK h a1) (hk2 : hK h a1 ≤ 41) (hx : ¬ (x0 < 0 ∨ hL h a1 ≤ x0.toNatClampNeg)) : Rn r 42 116 [l0, l1, l2, l3, l4] [vI x0, vR (some a1), vI x2] h Q ↔ Rn r 42 117 [l0, l1, l2, l3, l4] [vI (hI h a1 x0.toNatClampNeg), vI x2] h Q := Rn_nx pg42 rfl ((if_pos ⟨hk, hk2⟩).trans (if_neg hx))
theorem sX6_judge_117 : Rn r 42 117 [l0, l1, l2, l3, l4] [vI x0, vI x1] h Q ↔ if x1 = x0 then Rn r 42 124 [l0, l1, l2, l3, l4] [] h Q else Rn r 42 120 [l0, l1, l2, l3, l4] [] h Q := Rn_if pg42 rfl rfl rfl
theorem sX6_judge_120 : Rn r 42 120 [l0, l1, l2, l3, l4] [] h Q ↔ Rn r 42 121 [l0, l1, l2, l3, l4] [vI 1] h Q := Rn_nx pg42 rfl rfl
theorem sX6_judge_121 : Rn r 42 121 [l0, l1, l2, l3, l4] [vI x0] h Q ↔ Rn r 42 125 [l0, l1, l2, l3, l4] [vI x0] h Q := Rn_nx pg42 rfl rfl
theorem sX6_judge_124 : Rn r 42 124 [l0, l1, l2, l3, l4] [] h Q ↔ Rn r 42 125 [l0, l1, l2, l3, l4] [vI 0] h Q := Rn_nx pg42 rfl rfl
theorem sX6_judge_125 : Rn r 42 125 [l0, l1, l2, l3, l4] [vI x0] h Q ↔ Rn r 42 126 [l0, some (vI x0), l2, l3, l4] [] h Q := Rn_nx pg42 rfl rfl
theorem sX6_judge_126 : Rn r 42 126 [some (vR z), l1, l2, l3, l4] [] h Q ↔ Rn r 42 127 [some (vR z), l1, l2, l3, l4] [vR z] h Q := Rn_nx pg42 rfl rfl
theorem sX6_judge_127 (hk : hK h a0 = 15) : Rn r 42 127 [l0, l1, l2, l3, l4] [vR (some a0)] h Q ↔ Rn r 42 130 [l0, l1, l2, l3, l4] [vR (hR h a0 58)] h Q := Rn_nx pg42 rfl (if_pos ⟨(hk ▸ Nat.le_refl _), (hk ▸ Nat.le_refl _)⟩)
theorem sX6_judge_130 : Rn r 42 130 [l0, l1, l2, some (vI x), l4] [vR z0] h Q ↔ Rn r 42 131 [l0, l1, l2, some (vI x), l4] [vI x, vR z0] h Q := Rn_nx pg42 rfl rfl
theorem sX6_judge_131 : Rn r 42 131 [l0, l1, l2, l3, some (vI x)] [vI x0, vR z1] h Q ↔ Rn r 42 133 [l0, l1, l2, l3, some (vI x)] [vI x, vI x0, vR z1] h Q := Rn_nx pg42 rfl rfl
theorem sX6_judge_133 (hk : hK h a2 = 40) (hx : ¬ (x1 < 0 ∨ hL h a2 ≤ x1.toNatClampNeg)) : Rn r 42 133 [l0, l1, l2, l3, l4] [vI x0, vI x1, vR (some a2)] h Q ↔ Rn r 42 134 [l0, l1, l2, l3, l4] [] (putI h a2 x1.toNatClampNeg x0) Q := Rn_nx pg42 rfl ((if_pos hk).trans (if_neg hx))
theorem sX6_judge_134 : Rn r 42 134 [l0, l1, some (vI x), l3, l4] [] h Q ↔ Rn r 42 137 [l0, l1, some (vI (x + (-1))), l3, l4] [] h Q := Rn_nx pg42 rfl rfl
theorem sX6_judge_137 : Rn r 42 137 [l0, l1, l2, l3, l4] [] h Q ↔ Rn r 42 84 [l0, l1, l2, l3, l4] [] h Q := Rn_nx pg42 rfl rfl
theorem sX6_judge_140 : Rn r 42 140 [l0, l1, l2, l3, l4] [] h Q ↔ Rn r 42 66 [l0, l1, l2, l3, l4] [] h Q := Rn_nx pg42 rfl rfl
theorem sX6_judge_143 : Rn r 42 143 [some (vR z), l1, l2, l3, l4] [] h Q ↔ Rn r 42 144 [some (vR z), l1, l2, l3, l4] [vR z] h Q := Rn_nx pg42 rfl rfl
theorem sX6_judge_144 : Rn r 42 144 [l0, l1, l2, l3, l4] [vR z0] h Q ↔ Rn r 42 145 [l0, l1, l2, l3, l4] [vI 0, vR z0] h Q := Rn_nx pg42 rfl rfl
theorem sX6_judge_145 (hk : hK h a1 = 15) : Rn r 42 145 [l0, l1, l2, l3, l4] [vI x0, vR (some a1)] h Q ↔ Rn r 42 148 [l0, l1, l2, l3, l4] [] (putI h a1 60 x0) Q := Rn_nx pg42 rfl ((if_pos ⟨(hk ▸ Nat.le_refl _), (hk ▸ Nat.le_refl _)⟩).trans rfl)
theorem sX6_judge_148 : Rn r 42 148 [l0, l1, l2, l3, l4] [] h Q ↔ Rn r 42 149 [l0, l1, l2, l3, l4] [vI 4] h Q := Rn_nx pg42 rfl rfl
theorem sX6_judge_149 : Rn r 42 149 [l0, l1, l2, l3, l4] [vI x0] h Q ↔ Rn r 42 150 [l0, l1, some (vI x0), l3, l4] [] h Q := Rn_nx pg42 rfl rfl
theorem sX6_judge_150 : Rn r 42 150 [l0, l1, some (vI x), l3, l4] [] h Q ↔ Rn r 42 151 [l0, l1, some (vI x), l3, l4] [vI x] h Q := Rn_nx pg42 rfl rfl
theorem sX6_judge_151 : Rn r 42 151 [some (vR z), l1, l2, l3, l4] [vI x0] h Q ↔ Rn r 42 152 [some (vR z), l1, l2, l3, l4] [vR z, vI x0] h Q := Rn_nx pg42 rfl rfl
theorem sX6_judge_152 (hk : hK h a0 = 15) : Rn r 42 152 [l0, l1, l2, l3, l4] [vR (some a0), vI x1] h Q ↔ Rn r 42 155 [l0, l1, l2, l3, l4] [vR (hR h a0 3), vI x1] h Q := Rn_nx pg42 rfl (if_pos ⟨(hk ▸ Nat.le_refl _), (hk ▸ Nat.le_refl _)⟩)
theorem sX6_judge_155 : Rn r 42 155 [some (vR z), l1, l2, l3, l4] [vR z0, vI x1] h Q ↔ Rn r 42 156 [some (vR z), l1, l2, l3, l4] [vR z, vR z0, vI x1] h Q := Rn_nx pg42 rfl rfl
theorem sX6_judge_156 (hk : hK h a0 = 15) : Rn r 42 156 [l0, l1, l2, l3, l4] [vR (some a0), vR z1, vI x2] h Q ↔ Rn r 42 159 [l0, l1, l2, l3, l4] [vI (hI h a0 2), vR z1, vI x2] h Q := Rn_nx pg42 rfl (if_pos ⟨(hk ▸ Nat.le_refl _), (hk ▸ Nat.le_refl _)⟩)
theorem sX6_judge_159 (hk : 40 ≤ hK h a1) (hk2 : hK h a1 ≤ 41) (hx : ¬ (x0 < 0 ∨ hL h a1 ≤ x0.toNatClampNeg)) : Rn r 42 159 [l0, l1, l2, l3, l4] [vI x0, vR (some a1), vI x2] h Q ↔ Rn r 42 160 [l0, l1, l2, l3, l4] [vI (hI h a1 x0.toNatClampNeg), vI x2] h Q := Rn_nx pg42 rfl ((if_pos ⟨hk, hk2⟩).trans (if_neg hx))
theorem sX6_judge_160 : Rn r 42 160 [l0, l1, l2, l3, l4] [vI x0, vI x1] h Q ↔ if x0 ≤ x1 then Rn r 42 243 [l0, l1, l2, l3, l4] [] h Q else Rn r 42 163 [l0, l1, l2, l3, l4] [] h Q := Rn_if pg42 rfl rfl rfl
theorem sX6_judge_163 : Rn r 42 163 [some (vR z), l1, l2, l3, l4] [] h Q ↔ Rn r 42 164 [some (vR z), l1, l2, l3, l4] [vR z] h Q := Rn_nx pg42 rfl rfl
theorem sX6_judge_164 (hk : hK h a0 = 15) : Rn r 42 164 [l0, l1, l2, l3, l4] [vR (some a0)] h Q ↔ Rn r 42 167 [l0, l1, l2, l3, l4] [vI (hI h a0 2)] h Q := Rn_nx pg42 rfl (if_pos ⟨(hk ▸ Nat.le_refl _), (hk ▸ Nat.le_refl _)⟩)
theorem sX6_judge_167 : Rn r 42 167 [l0, l1, l2, l3, l4] [vI x0] h Q ↔ Rn r 42 169 [l0, l1, l2, l3, l4] [vI 16, vI x0] h Q := Rn_nx pg42 rfl rfl
theorem sX6_judge_169 : Rn r 42 169 [l0, l1, l2, l3, l4] [vI x0, vI x1] h Q ↔ Rn r 42 170 [l0, l1, l2, l3, l4] [vI (x1 * x0)] h Q := Rn_nx pg42 rfl rfl
theorem sX6_judge_170 : Rn r 42 170 [l0, l1, some (vI x), l3, l4] [vI x0] h Q ↔ Rn r 42 171 [l0, l1, some (vI x), l3, l4] [vI x, vI x0] h Q := Rn_nx pg42 rfl rfl
theorem sX6_judge_171 : Rn r 42 171 [l0, l1, l2, l3, l4] [vI x0, vI x1] h Q ↔ Rn r 42 172 [l0, l1, l2, l3, l4] [vI (x1 + x0)] h Q := Rn_nx pg42 rfl rfl
theorem sX6_judge_172 : Rn r 42 172 [l0, l1, l2, l3, l4] [vI x0] h Q ↔ Rn r 42 173 [l0, l1, l2, some (vI x0), l4] [] h Q := Rn_nx pg42 rfl rfl
theorem sX6_judge_173 : Rn r 42 173 [some (vR z), l1, l2, l3, l4] [] h Q ↔ Rn r 42 174 [some (vR z), l1, l2, l3, l4] [vR z] h Q := Rn_nx pg42 rfl rfl
theorem sX6_judge_174 : Rn r 42 174 [some (vR z), l1, l2, l3, l4] [vR z0] h Q ↔ Rn r 42 175 [some (vR z), l1, l2, l3, l4] [vR z, vR z0] h Q := Rn_nx pg42 rfl rfl
theorem sX6_judge_175 (hk : hK h a0 = 15) : Rn r 42 175 [l0, l1, l2, l3, l4] [vR (some a0), vR z1] h Q ↔ Rn r 42 178 [l0, l1, l2, l3, l4] [vR (hR h a0 4), vR z1] h Q := Rn_nx pg42 rfl (if_pos ⟨(hk ▸ Nat.le_refl _), (hk ▸ Nat.le_refl _)⟩)
theorem sX6_judge_178 : Rn r 42 178 [l0, l1, l2, some (vI x), l4] [vR z0, vR z1] h Q ↔ Rn r 42 179 [l0, l1, l2, some (vI x), l4] [vI x, vR z0, vR z1] h Q := Rn_nx pg42 rfl rfl
theorem sX6_judge_179 (hk : hK h a1 = 42) (hx : ¬ (x0 < 0 ∨ hL h a1 ≤ x0.toNatClampNeg)) : Rn r 42 179 [l0, l1, l2, l3, l4] [vI x0, vR (some a1), vR z2] h Q ↔ Rn r 42 180 [l0, l1, l2, l3, l4] [vL (hJ h a1 x0.toNatClampNeg), vR z2] h Q := Rn_nx pg42 rfl ((if_pos ⟨(hk ▸ Nat.le_refl _), (hk ▸ Nat.le_refl _)⟩).trans (if_neg hx))
theorem sX6_judge_180 : Rn r 42 180 [some (vR z), l1, l2, l3, l4] [vL y0, vR z1] h Q ↔ Rn r 42 181 [some (vR z), l1, l2, l3, l4] [vR z, vL y0, vR z1] h Q := Rn_nx pg42 rfl rfl
theorem sX6_judge_181 (hk : hK h a0 = 15) : Rn r 42 181 [l0, l1, l2, l3, l4] [vR (some a0), vL y1, vR z2] h Q ↔ Rn r 42 184 [l0, l1, l2, l3, l4] [vR (hR h a0 5), vL y1, vR z2] h Q := Rn_nx pg42 rfl (if_pos ⟨(hk ▸ Nat.le_refl _), (hk ▸ Nat.le_refl _)⟩)
theorem sX6_judge_184 : Rn r 42 184 [l0, l1, l2, some (vI x), l4] [vR z0, vL y1, vR z2] h Q ↔ Rn r 42 185 [l0, l1, l2, some (vI x), l4] [vI x, vR z0, vL y1, vR z2] h Q := Rn_nx pg42 rfl rfl
theorem sX6_judge_185 (hk : 40 ≤ hK h a1) (hk2 : hK h a1 ≤ 41) (hx : ¬ (x0 < 0 ∨ hL h a1 ≤ x0.toNatClampNeg)) : Rn r 42 185 [l0, l1, l2, l3, l4] [vI x0, vR (some a1), vL y2, vR z3] h Q ↔ Rn r 42 186 [l0, l1, l2, l3, l4] [vI (hI h a1 x0.toNatClampNeg), vL y2, vR z3] h Q := Rn_nx pg42 rfl ((if_pos ⟨hk, hk2⟩).trans (if_neg hx))
theorem sX6_judge_186 (hk : hK h a2 = 15) : Rn r 42 186 [l0, l1, l2, l3, l4] [vI x0, vL y1, vR (some a2)] h Q ↔ Cl r 69 [vR (some a2), vL y1, vI x0] h (Kt r 42 189 [l0, l1, l2, l3, l4] [] Q) := Rn_call pg42 rfl (by simp only [am_exec, am_inv, am_pop, am_lk, hk]; rfl) pg69 rfl rfl rfl
theorem sX6_judge_189 : Rn r 42 189 [l0, l1, l2, l3, l4] [vI x0] h Q ↔ Rn r 42 190 [l0, l1, l2, l3, l4] [vI (-1), vI x0] h Q := Rn_nx pg42 rfl rfl
theorem sX6_judge_190 : Rn r 42 190 [l0, l1, l2, l3, l4] [vI x0, vI x1] h Q ↔ if x1 = x0 then Rn r 42 205 [l0, l1, l2, l3, l4] [] h Q else Rn r 42 193 [l0, l1, l2, l3, l4] [] h Q := Rn_if pg42 rfl rfl rfl
theorem sX6_judge_193 : Rn r 42 193 [some (vR z), l1, l2, l3, l4] [] h Q ↔ Rn r 42 194 [some (vR z), l1, l2, l3, l4] [vR z] h Q := Rn_nx pg42 rfl rfl
theorem sX6_judge_194 : Rn r 42 194 [l0, l1, l2, l3, l4] [vR z0] h Q ↔ Rn r 42 195 [l0, l1, l2, l3, l4] [vI 2, vR z0] h Q := Rn_nx pg42 rfl rfl
theorem sX6_judge_195 : Rn r 42 195 [some (vR z), l1, l2, l3, l4] [vI x0, vR z1] h Q ↔ Rn r 42 196 [some (vR z), l1, l2, l3, l4] [vR z, vI x0, vR z1] h Q := Rn_nx pg42 rfl rfl
theorem sX6_judge_196 (hk : hK h a0 = 15) : Rn r 42 196 [l0, l1, l2, l3, l4] [vR (some a0), vI x1, vR z2] h Q ↔ Rn r 42 199 [l0, l1, l2, l3, l4] [vR (hR h a0 5), vI x1, vR z2] h Q := Rn_nx pg42 rfl (if_pos ⟨(hk ▸ Nat.le_refl _), (hk ▸ Nat.le_refl _)⟩)
theorem sX6_judge_199 : Rn r 42 199 [l0, l1, l2, some (vI x), l4] [vR z0, vI x1, vR z2] h Q ↔ Rn r 42 200 [l0, l1, l2, some (vI x), l4] [vI x, vR z0, vI x1, vR z2] h Q := Rn_nx pg42 rfl rfl
theorem sX6_judge_200 (hk : 40 ≤ hK h a1) (hk2 : hK h a1 ≤ 41) (hx : ¬ (x0 < 0 ∨ hL h a1 ≤ x0.toNatClampNeg)) : Rn r 42 200 [l0, l1, l2, l3, l4] [vI x0, vR (some a1), vI x2, vR z3] h Q ↔ Rn r 42 201 [l0, l1, l2, l3, l4] [vI (hI h a1 x0.toNatClampNeg), vI x2, vR z3] h Q := Rn_nx pg42 rfl ((if_pos ⟨hk, hk2⟩).trans (if_neg hx))
theorem sX6_judge_201 : Rn r 42 201 [l0, l1, l2, l3, l4] [vI x0, vI x1, vR z2] h Q ↔ Rn r 42 202 [l0, l1, l2, l3, l4] [vI (-1), vI x0, vI x1, vR z2] h Q := Rn_nx pg42 rfl rfl
theorem sX6_judge_202 (hk : hK h a3 = 15) : Rn r 42 202 [l0, l1, l2, l3, l4] [vI x0, vI x1, vI x2, vR (some a3)] h Q ↔ Cl r 96 [vR (some a3), vI x2, vI x1, vI x0] h (Kt r 42 205 [l0, l1, l2, l3, l4] [] Q) := Rn_call pg42 rfl (by simp only [am_exec, am_inv, am_pop, am_lk, hk]; rfl) pg96 rfl rfl rfl
theorem sX6_judge_205 : Rn r 42 205 [some (vR z), l1, l2, l3, l4] [] h Q ↔ Rn r 42 206 [some (vR z), l1, l2, l3, l4] [vR z] h Q := Rn_nx pg42 rfl rfl
theorem sX6_judge_206 : Rn r 42 206 [some (vR z), l1, l2, l3, l4] [vR z0] h Q ↔ Rn r 42 207 [some (vR z), l1, l2, l3, l4] [vR z, vR z0] h Q := Rn_nx pg42 rfl rfl
theorem sX6_judge_207 (hk : hK h a0 = 15) : Rn r 42 207 [l0, l1, l2, l3, l4] [vR (some a0), vR z1] h Q ↔ Rn r 42 210 [l0, l1, l2, l3, l4] [vR (hR h a0 7), vR z1] h Q := Rn_nx pg42 rfl (if_pos ⟨(hk ▸ Nat.le_refl _), (hk ▸ Nat.le_refl _)⟩)
theorem sX6_judge_210 : Rn r 42 210 [l0, l1, l2, some (vI x), l4] [vR z0, vR z1] h Q ↔ Rn r 42 211 [l0, l1, l2, some (vI x), l4] [vI x, vR z0, vR z1] h Q := Rn_nx pg42 rfl rfl
theorem sX6_judge_211 (hk : hK h a1 = 42) (hx : ¬ (x0 < 0 ∨ hL h a1 ≤ x0.toNatClampNeg)) : Rn r 42 211 [l0, l1, l2, l3, l4] [vI x0, vR (some a1), vR z2] h Q ↔ Rn r 42 212 [l0, l1, l2, l3, l4] [vL (hJ h a1 x0.toNatClampNeg), vR z2] h Q := Rn_nx pg42 rfl ((if_pos ⟨(hk ▸ Nat.le_refl _), (hk ▸ Nat.le_refl _)⟩).trans (if_neg hx))
theorem sX6_judge_212 : Rn r 42 212 [some (vR z), l1, l2, l3, l4] [vL y0, vR z1] h Q ↔ Rn r 42 213 [some (vR z), l1, l2, l3, l4] [vR z, vL y0, vR z1] h Q := Rn_nx pg42 rfl rfl
theorem sX6_judge_213 (hk : hK h a0 = 15) : Rn r 42 213 [l0, l1, l2, l3, l4] [vR (some a0), vL y1, vR z2] h Q ↔ Rn r 42 216 [l0, l1, l2, l3, l4] [vR (hR h a0 8), vL y1, vR z2] h Q := Rn_nx pg42 rfl (if_pos ⟨(hk ▸ Nat.le_refl _), (hk ▸ Nat.le_refl _)⟩)
theorem sX6_judge_216 : Rn r 42 216 [l0, l1, l2, some (vI x), l4] [vR z0, vL y1, vR z2] h Q ↔ Rn r 42 217 [l0, l1, l2, some (vI x), l4] [vI x, vR z0, vL y1, vR z2] h Q := Rn_nx pg42 rfl rfl
theorem sX6_judge_217 (hk : 40 ≤ hK h a1) (hk2 : hK h a1 ≤ 41) (hx : ¬ (x0 < 0 ∨ hL h a1 ≤ x0.toNatClampNeg)) : Rn r 42 217 [l0, l1, l2, l3, l4] [vI x0, vR (some a1), vL y2, vR z3] h Q ↔ Rn r 42 218 [l0, l1, l2, l3, l4] [vI (hI h a1 x0.toNatClampNeg), vL y2, vR z3] h Q := Rn_nx pg42 rfl ((if_pos ⟨hk, hk2⟩).trans (if_neg hx))
theorem sX6_judge_218 (hk : hK h a2 = 15) : Rn r 42 218 [l0, l1, l2, l3, l4] [vI x0, vL y1, vR (some a2)] h Q ↔ Cl r 69 [vR (some a2), vL y1, vI x0] h (Kt r 42 221 [l0, l1, l2, l3, l4] [] Q) := Rn_call pg42 rfl (by simp only [am_exec, am_inv, am_pop, am_lk, hk]; rfl) pg69 rfl rfl rfl
theorem sX6_judge_221 : Rn r 42 221 [l0, l1, l2, l3, l4] [vI x0] h Q ↔ Rn r 42 222 [l0, l1, l2, l3, l4] [vI (-1), vI x0] h Q := Rn_nx pg42 rfl rfl
theorem sX6_judge_222 : Rn r 42 222 [l0, l1, l2, l3, l4] [vI x0, vI x1] h Q ↔ if x1 ≠ x0 then Rn r 42 237 [l0, l1, l2, l3, l4] [] h Q else Rn r 42 225 [l0, l1, l2, l3, l4] [] h Q := Rn_if pg42 rfl rfl rfl
theorem sX6_judge_225 : Rn r 42 225 [some (vR z), l1, l2, l3, l4] [] h Q ↔ Rn r 42 226 [some (vR z), l1, l2, l3, l4] [vR z] h Q := Rn_nx pg42 rfl rfl
theorem sX6_judge_226 : Rn r 42 226 [l0, l1, l2, l3, l4] [vR z0] h Q ↔ Rn r 42 227 [l0, l1, l2, l3, l4] [vI 1, vR z0] h Q := Rn_nx pg42 rfl rfl
theorem sX6_judge_227 : Rn r 42 227 [some (vR z), l1, l2, l3, l4] [vI x0, vR z1] h Q ↔ Rn r 42 228 [some (vR z), l1, l2, l3, l4] [vR z, vI x0, vR z1] h Q := Rn_nx pg42 rfl rfl
theorem sX6_judge_228 (hk : hK h a0 = 15) : Rn r 42 228 [l0, l1, l2, l3, l4] [vR (some a0), vI x1, vR z2] h Q ↔ Rn r 42 231 [l0, l1, l2, l3, l4] [vR (hR h a0 8), vI x1, vR z2] h Q := Rn_nx pg42 rfl (if_pos ⟨(hk ▸ Nat.le_refl _), (hk ▸ Nat.le_refl _)⟩)
theorem sX6_judge_231 : Rn r 42 231 [l0, l1, l2, some (vI x), l4] [vR z0, vI x1, vR z2] h Q ↔ Rn r 42 232 [l0, l1, l2, some (vI x), l4] [vI x, vR z0, vI x1, vR z2] h Q := Rn_nx pg42 rfl rfl
theorem sX6_judge_232 (hk : 40 ≤ hK h a1) (hk2 : hK h a1 ≤ 41) (hx : ¬ (x0 < 0 ∨ hL h a1 ≤ x0.toNatClampNeg)) : Rn r 42 232 [l0, l1, l2, l3, l4] [vI x0, vR (some a1), vI x2, vR z3] h Q ↔ Rn r 42 233 [l0, l1, l2, l3, l4] [vI (hI h a1 x0.toNatClampNeg), vI x2, vR z3] h Q := Rn_nx pg42 rfl ((if_pos ⟨hk, hk2⟩).trans (if_neg hx))
theorem sX6_judge_233 : Rn r 42 233 [l0, l1, l2, l3, l4] [vI x0, vI x1, vR z2] h Q ↔ Rn r 42 234 [l0, l1, l2, l3, l4] [vI (-1), vI x0, vI x1, vR z2] h Q := Rn_nx pg42 rfl rfl
theorem sX6_judge_234 (hk : hK h a3 = 15) : Rn r 42 234 [l0, l1, l2, l3, l4] [vI x0, vI x1, vI x2, vR (some a3)] h Q ↔ Cl r 96 [vR (some a3), vI x2, vI x1, vI x0] h (Kt r 42 237 [l0, l1, l2, l3, l4] [] Q) := Rn_call pg42 rfl (by simp only [am_exec, am_inv, am_pop, am_lk, hk]; rfl) pg96 rfl rfl rfl
theorem sX6_judge_237 : Rn r 42 237 [l0, l1, some (vI x), l3, l4] [] h Q ↔ Rn r 42 240 [l0, l1, some (vI (x + 1)), l3, l4] [] h Q := Rn_nx pg42 rfl rfl
theorem sX6_judge_240 : Rn r 42 240 [l0, l1, l2, l3, l4] [] h Q ↔ Rn r 42 150 [l0, l1, l2, l3, l4] [] h Q := Rn_nx pg42 rfl rfl
theorem sX6_judge_243 : Rn r 42 243 [l0, l1, l2, l3, l4] [] h Q ↔ Rn r 42 244 [l0, l1, l2, l3, l4] [vI 0] h Q := Rn_nx pg42 rfl rfl
theorem sX6_judge_244 : Rn r 42 244 [l0, l1, l2, l3, l4] [vI x0] h Q ↔ Rn r 42 245 [l0, l1, some (vI x0), l3, l4] [] h Q := Rn_nx pg42 rfl rfl
theorem sX6_judge_245 : Rn r 42 245 [l0, l1, some (vI x), l3, l4] [] h Q ↔ Rn r 42 246 [l0, l1, some (vI x), l3, l4] [vI x] h Q := Rn_nx pg42 rfl rfl
theorem sX6_judge_246 : Rn r 42 246 [some (vR z), l1, l2, l3, l4] [vI x0] h Q ↔ Rn r 42 247 [some (vR z), l1, l2, l3, l4] [vR z, vI x0] h Q := Rn_nx pg42 rfl rfl
theorem sX6_judge_247 (hk : hK h a0 = 15) : Rn r 42 247 [l0, l1, l2, l3, l4] [vR (some a0), vI x1] h Q ↔ Rn r 42 250 [l0, l1, l2, l3, l4] [vR (hR h a0 9), vI x1] h Q := Rn_nx pg42 rfl (if_pos ⟨(hk ▸ Nat.le_refl _), (hk ▸ Nat.le_refl _)⟩)
theorem sX6_judge_250 : Rn r 42 250 [some (vR z), l1, l2, l3, l4] [vR z0, vI x1] h Q ↔ Rn r 42 251 [some (vR z), l1, l2, l3, l4] [vR z, vR z0, vI x1] h Q := Rn_nx pg42 rfl rfl
theorem sX6_judge_251 (hk : hK h a0 = 15) : Rn r 42 251 [l0, l1, l2, l3, l4] [vR (some a0), vR z1, vI x2] h Q ↔ Rn r 42 254 [l0, l1, l2, l3, l4] [vI (hI h a0 2), vR z1, vI x2] h Q := Rn_nx pg42 rfl (if_pos ⟨(hk ▸ Nat.le_refl _), (hk ▸ Nat.le_refl _)⟩)
theorem sX6_judge_254 (hk : 40 ≤ hK h a1) (hk2 : hK h a1 ≤ 41) (hx : ¬ (x0 < 0 ∨ hL h a1 ≤ x0.toNatClampNeg)) : Rn r 42 254 [l0, l1, l2, l3, l4] [vI x0, vR (some a1), vI x2] h Q ↔ Rn r 42 255 [l0, l1, l2, l3, l4] [vI (hI h a1 x0.toNatClampNeg), vI x2] h Q := Rn_nx pg42 rfl ((if_pos ⟨hk, hk2⟩).trans (if_neg hx))
theorem sX6_judge_255 : Rn r 42 255 [l0, l1, l2, l3, l4] [vI x0, vI x1] h Q ↔ if x0 ≤ x1 then Rn r 42 269 [l0, l1, l2, l3, l4] [] h Q else Rn r 42 258 [l0, l1, l2, l3, l4] [] h Q := Rn_if pg42 rfl rfl rfl
theorem sX6_judge_258 : Rn r 42 258 [some (vR z), l1, l2, l3, l4] [] h Q ↔ Rn r 42 259 [some (vR z), l1, l2, l3, l4] [vR z] h Q := Rn_nx pg42 rfl rfl
theorem sX6_judge_259 : Rn r 42 259 [l0, l1, some (vI x), l3, l4] [vR z0] h Q ↔ Rn r 42 260 [l0, l1, some (vI x), l3, l4] [vI x, vR z0] h Q := Rn_nx pg42 rfl rfl
theorem sX6_judge_260 (hk : hK h a1 = 15) : Rn r 42 260 [l0, l1, l2, l3, l4] [vI x0, vR (some a1)] h Q ↔ Cl r 97 [vR (some a1), vI x0] h (Kt r 42 263 [l0, l1, l2, l3, l4] [] Q) := Rn_call pg42 rfl (by simp only [am_exec, am_inv, am_pop, am_lk, hk]; rfl) pg97 rfl rfl rfl
theorem sX6_judge_263 : Rn r 42 263 [l0, l1, some (vI x), l3, l4] [] h Q ↔ Rn r 42 266 [l0, l1, some (vI (x + 1)), l3, l4] [] h Q := Rn_nx pg42 rfl rfl
theorem sX6_judge_266 : Rn r 42 266 [l0, l1, l2, l3, l4] [] h Q ↔ Rn r 42 245 [l0, l1, l2, l3, l4] [] h Q := Rn_nx pg42 rfl rfl
theorem sX6_judge_269 : Rn r 42 269 [l0, l1, l2, l3, l4] [] h Q ↔ Rn r 42 270 [l0, l1, l2, l3, l4] [vI 0] h Q := Rn_nx pg42 rfl rfl
theorem sX6_judge_270 : Rn r 42 270 [l0, l1, l2, l3, l4] [vI x0] h Q ↔ Rn r 42 271 [l0, l1, some (vI x0), l3, l4] [] h Q := Rn_nx pg42 rfl rfl
theorem sX6_judge_271 : Rn r 42 271 [l0, l1, some (vI x), l3, l4] [] h Q ↔ Rn r 42 272 [l0, l1, some (vI x), l3, l4] [vI x] h Q := Rn_nx pg42 rfl rfl
theorem sX6_judge_272 : Rn r 42 272 [some (vR z), l1, l2, l3, l4] [vI x0] h Q ↔ Rn r 42 273 [some (vR z), l1, l2, l3, l4] [vR z, vI x0] h Q := Rn_nx pg42 rfl rfl
theorem sX6_judge_273 (hk : hK h a0 = 15) : Rn r 42 273 [l0, l1, l2, l3, l4] [vR (some a0), vI x1] h Q ↔ Rn r 42 276 [l0, l1, l2, l3, l4] [vR (hR h a0 19), vI x1] h Q := Rn_nx pg42 rfl (if_pos ⟨(hk ▸ Nat.le_refl _), (hk ▸ Nat.le_refl _)⟩)
theorem sX6_judge_276 : Rn r 42 276 [some (vR z), l1, l2, l3, l4] [vR z0, vI x1] h Q ↔ Rn r 42 277 [some (vR z), l1, l2, l3, l4] [vR z, vR z0, vI x1] h Q := Rn_nx pg42 rfl rfl
theorem sX6_judge_277 (hk : hK h a0 = 15) : Rn r 42 277 [l0, l1, l2, l3, l4] [vR (some a0), vR z1, vI x2] h Q ↔ Rn r 42 280 [l0, l1, l2, l3, l4] [vI (hI h a0 2), vR z1, vI x2] h Q := Rn_nx pg42 rfl (if_pos ⟨(hk ▸ Nat.le_refl _), (hk ▸ Nat.le_refl _)⟩)
theorem sX6_judge_280 (hk : 40 ≤ hK h a1) (hk2 : hK h a1 ≤ 41) (hx : ¬ (x0 < 0 ∨ hL h a1 ≤ x0.toNatClampNeg)) : Rn r 42 280 [l0, l1, l2, l3, l4] [vI x0, vR (some a1), vI x2] h Q ↔ Rn r 42 281 [l0, l1, l2, l3, l4] [vI (hI h a1 x0.toNatClampNeg), vI x2] h Q := Rn_nx pg42 rfl ((if_pos ⟨hk, hk2⟩).trans (if_neg hx))
theorem sX6_judge_281 : Rn r 42 281 [l0, l1, l2, l3, l4] [vI x0, vI x1] h Q ↔ if x0 ≤ x1 then Rn r 42 303 [l0, l1, l2, l3, l4] [] h Q else Rn r 42 284 [l0, l1, l2, l3, l4] [] h Q := Rn_if pg42 rfl rfl rfl
theorem sX6_judge_284 : Rn r 42 284 [some (vR z), l1, l2, l3, l4] [] h Q ↔ Rn r 42 285 [some (vR z), l1, l2, l3, l4] [vR z] h Q := Rn_nx pg42 rfl rfl
theorem sX6_judge_285 : Rn r 42 285 [some (vR z), l1, l2, l3, l4] [vR z0] h Q ↔ Rn r 42 286 [some (vR z), l1, l2, l3, l4] [vR z, vR z0] h Q := Rn_nx pg42 rfl rfl
theorem sX6_judge_286 (hk : hK h a0 = 15) : Rn r 42 286 [l0, l1, l2, l3, l4] [vR (some a0), vR z1] h Q ↔ Rn r 42 289 [l0, l1, l2, l3, l4] [vI (hI h a0 2), vR z1] h Q := Rn_nx pg42 rfl (if_pos ⟨(hk ▸ Nat.le_refl _), (hk ▸ Nat.le_refl _)⟩)
theorem sX6_judge_289 : Rn r 42 289 [l0, l1, l2, l3, l4] [vI x0, vR z1] h Q ↔ Rn r 42 291 [l0, l1, l2, l3, l4] [vI 120, vI x0, vR z1] h Q := Rn_nx pg42 rfl rfl
theorem sX6_judge_291 : Rn r 42 291 [l0, l1, l2, l3, l4] [vI x0, vI x1, vR z2] h Q ↔ Rn r 42 292 [l0, l1, l2, l3, l4] [vI (x1 * x0), vR z2] h Q := Rn_nx pg42 rfl rfl
theorem sX6_judge_292 : Rn r 42 292 [l0, l1, some (vI x), l3, l4] [vI x0, vR z1] h Q ↔ Rn r 42 293 [l0, l1, some (vI x), l3, l4] [vI x, vI x0, vR z1] h Q := Rn_nx pg42 rfl rfl
theorem sX6_judge_293 : Rn r 42 293 [l0, l1, l2, l3, l4] [vI x0, vI x1, vR z2] h Q ↔ Rn r 42 294 [l0, l1, l2, l3, l4] [vI (x1 + x0), vR z2] h Q := Rn_nx pg42 rfl rfl
theorem sX6_judge_294 (hk : hK h a1 = 15) : Rn r 42 294 [l0, l1, l2, l3, l4] [vI x0, vR (some a1)] h Q ↔ Cl r 98 [vR (some a1), vI x0] h (Kt r 42 297 [l0, l1, l2, l3, l4] [] Q) := Rn_call pg42 rfl (by simp only [am_exec, am_inv, am_pop, am_lk, hk]; rfl) pg98 rfl rfl rfl
theorem sX6_judge_297 : Rn r 42 297 [l0, l1, some (vI x), l3, l4] [] h Q ↔ Rn r 42 300 [l0, l1, some (vI (x + 1)), l3, l4] [] h Q := Rn_nx pg42 rfl rfl
theorem sX6_judge_300 : Rn r 42 300 [l0, l1, l2, l3, l4] [] h Q ↔ Rn r 42 271 [l0, l1, l2, l3, l4] [] h Q := Rn_nx pg42 rfl rfl
theorem sX6_judge_303 : Rn r 42 303 [l0, l1, l2, l3, l4] [] h Q ↔ Q (Sum.inl none) h := Rn_end pg42 rfl rfl
/-! 43 java/util/ArrayList.get(I)Ljava/lang/Object; -/
theorem eJ5_get : Cl r 43 [vR z0, vI x1] h Q ↔ Rn r 43 0 [some (vR z0), some (vI x1)] [] h Q := Cl_in pg43 rfl
theorem sJ5_get_0 : Rn r 43 0 [l0, some (vI x)] [] h Q ↔ Rn r 43 1 [l0, some (vI x)] [vI x] h Q := Rn_nx pg43 rfl rfl
theorem sJ5_get_1 : Rn r 43 1 [some (vR z), l1] [vI x0] h Q ↔ Rn r 43 2 [some (vR z), l1] [vR z, vI x0] h Q := Rn_nx pg43 rfl rfl
theorem sJ5_get_2 (hk : hK h a0 = 4) : Rn r 43 2 [l0, l1] [vR (some a0), vI x1] h Q ↔ Rn r 43 5 [l0, l1] [vI (hI h a0 2), vI x1] h Q := Rn_nx pg43 rfl (if_pos ⟨(hk ▸ Nat.le_refl _), (hk ▸ Nat.le_refl _)⟩)
theorem sJ5_get_5 : Rn r 43 5 [l0, l1] [vI x0, vI x1] h Q ↔ Cl r 99 [vI x1, vI x0] h (Kt r 43 8 [l0, l1] [] Q) := Rn_call pg43 rfl rfl pg99 rfl rfl rfl
theorem sJ5_get_8 : Rn r 43 8 [l0, l1] [vI x0] h Q ↔ Rn r 43 9 [l0, l1] [] h Q := Rn_nx pg43 rfl rfl
theorem sJ5_get_9 : Rn r 43 9 [some (vR z), l1] [] h Q ↔ Rn r 43 10 [some (vR z), l1] [vR z] h Q := Rn_nx pg43 rfl rfl
theorem sJ5_get_10 : Rn r 43 10 [l0, some (vI x)] [vR z0] h Q ↔ Rn r 43 11 [l0, some (vI x)] [vI x, vR z0] h Q := Rn_nx pg43 rfl rfl
theorem sJ5_get_11 (hk : hK h a1 = 4) : Rn r 43 11 [l0, l1] [vI x0, vR (some a1)] h Q ↔ Cl r 100 [vR (some a1), vI x0] h (Kt r 43 14 [l0, l1] [] Q) := Rn_call pg43 rfl (by simp only [am_exec, am_inv, am_pop, am_lk, hk]; rfl) pg100 rfl rfl rfl
theorem sJ5_get_14 : Rn r 43 14 [l0, l1] [vR z0] h Q ↔ Q (Sum.inl (some (vR z0))) h := Rn_end pg43 rfl rfl
/-! 44 ThrowRules$Unit.isChecked(LThrowRules$Kind;)Z -/
theorem eX3_isChecked : Cl r 44 [vR z0, vR z1] h Q ↔ Rn r 44 0 [some (vR z0), some (vR z1)] [] h Q := Cl_in pg44 rfl
theorem sX3_isChecked_0 : Rn r 44 0 [l0, some (vR z)] [] h Q ↔ Rn r 44 1 [l0, some (vR z)] [vR z] h Q := Rn_nx pg44 rfl rfl
theorem sX3_isChecked_1 : Rn r 44 1 [some (vR z), l1] [vR z0] h Q ↔ Rn r 44 2 [some (vR z), l1] [vR z, vR z0] h Q := Rn_nx pg44 rfl rfl
theorem sX3_isChecked_2 (hk : hK h a0 = 5) : Rn r 44 2 [l0, l1] [vR (some a0), vR z1] h Q ↔ Rn r 44 5 [l0, l1] [vR (hR h a0 0), vR z1] h Q := Rn_nx pg44 rfl (if_pos ⟨(hk ▸ Nat.le_refl _), (hk ▸ Nat.le_refl _)⟩)
theorem sX3_isChecked_5 : Rn r 44 5 [l0, l1] [vR z0, vR z1] h Q ↔ Rn r 44 6 [l0, l1] [vI 2, vR z0, vR z1] h Q := Rn_nx pg44 rfl rfl
theorem sX3_isChecked_6 (hk : hK h a1 = 4) : Rn r 44 6 [l0, l1] [vI x0, vR (some a1), vR z2] h Q ↔ Cl r 43 [vR (some a1), vI x0] h (Kt r 44 9 [l0, l1] [vR z2] Q) := Rn_call pg44 rfl (by simp only [am_exec, am_inv, am_pop, am_lk, hk]; rfl) pg43 rfl rfl rfl
theorem sX3_isChecked_9_n : Rn r 44 9 [l0, l1] [vR none, vR z1] h Q ↔ Rn r 44 12 [l0, l1] [vR none, vR z1] h Q := Rn_nx pg44 rfl rfl
theorem sX3_isChecked_9 (hk : hK h a0 ∈ [7]) : Rn r 44 9 [l0, l1] [vR (some a0), vR z1] h Q ↔ Rn r 44 12 [l0, l1] [vR (some a0), vR z1] h Q := Rn_nx pg44 rfl (if_pos hk)
theorem sX3_isChecked_12 (hk : hK h a1 = 7) : Rn r 44 12 [l0, l1] [vR z0, vR (some a1)] h Q ↔ Cl r 47 [vR (some a1), vR z0] h (Kt r 44 15 [l0, l1] [] Q) := Rn_call pg44 rfl (by simp only [am_exec, am_inv, am_pop, am_lk, hk]; rfl) pg47 rfl rfl rfl
theorem sX3_isChecked_15 : Rn r 44 15 [l0, l1] [vI x0] h Q ↔ if x0 ≠ 0 then Rn r 44 40 [l0, l1] [] h Q else Rn r 44 18 [l0, l1] [] h Q := Rn_if pg44 rfl rfl rfl
theorem sX3_isChecked_18 : Rn r 44 18 [l0, some (vR z)] [] h Q ↔ Rn r 44 19 [l0, some (vR z)] [vR z] h Q := Rn_nx pg44 rfl rfl
theorem sX3_isChecked_19 : Rn r 44 19 [some (vR z), l1] [vR z0] h Q ↔ Rn r 44 20 [some (vR z), l1] [vR z, vR z0] h Q := Rn_nx pg44 rfl rfl
theorem sX3_isChecked_20 (hk : hK h a0 = 5) : Rn r 44 20 [l0, l1] [vR (some a0), vR z1] h Q ↔ Rn r 44 23 [l0, l1] [vR (hR h a0 0), vR z1] h Q := Rn_nx pg44 rfl (if_pos ⟨(hk ▸ Nat.le_refl _), (hk ▸ Nat.le_refl _)⟩)
theorem sX3_isChecked_23 : Rn r 44 23 [l0, l1] [vR z0, vR z1] h Q ↔ Rn r 44 24 [l0, l1] [vI 3, vR z0, vR z1] h Q := Rn_nx pg44 rfl rfl
theorem sX3_isChecked_24 (hk : hK h a1 = 4) : Rn r 44 24 [l0, l1] [vI x0, vR (some a1), vR z2] h Q ↔ Cl r 43 [vR (some a1), vI x0] h (Kt r 44 27 [l0, l1] [vR z2] Q) := Rn_call pg44 rfl (by simp only [am_exec, am_inv, am_pop, am_lk, hk]; rfl) pg43 rfl rfl rfl
theorem sX3_isChecked_27_n : Rn r 44 27 [l0, l1] [vR none, vR z1] h Q ↔ Rn r 44 30 [l0, l1] [vR none, vR z1] h Q := Rn_nx pg44 rfl rfl
theorem sX3_isChecked_27 (hk : hK h a0 ∈ [7]) : Rn r 44 27 [l0, l1] [vR (some a0), vR z1] h Q ↔ Rn r 44 30 [l0, l1] [vR (some a0), vR z1] h Q := Rn_nx pg44 rfl (if_pos hk)
theorem sX3_isChecked_30 (hk : hK h a1 = 7) : Rn r 44 30 [l0, l1] [vR z0, vR (some a1)] h Q ↔ Cl r 47 [vR (some a1), vR z0] h (Kt r 44 33 [l0, l1] [] Q) := Rn_call pg44 rfl (by simp only [am_exec, am_inv, am_pop, am_lk, hk]; rfl) pg47 rfl rfl rfl
theorem sX3_isChecked_33 : Rn r 44 33 [l0, l1] [vI x0] h Q ↔ if x0 ≠ 0 then Rn r 44 40 [l0, l1] [] h Q else Rn r 44 36 [l0, l1] [] h Q := Rn_if pg44 rfl rfl rfl
theorem sX3_isChecked_36 : Rn r 44 36 [l0, l1] [] h Q ↔ Rn r 44 37 [l0, l1] [vI 1] h Q := Rn_nx pg44 rfl rfl
theorem sX3_isChecked_37 : Rn r 44 37 [l0, l1] [vI x0] h Q ↔ Rn r 44 41 [l0, l1] [vI x0] h Q := Rn_nx pg44 rfl rfl
theorem sX3_isChecked_40 : Rn r 44 40 [l0, l1] [] h Q ↔ Rn r 44 41 [l0, l1] [vI 0] h Q := Rn_nx pg44 rfl rfl
theorem sX3_isChecked_41 (hf : am_fit 4 x0 = true) : Rn r 44 41 [l0, l1] [vI x0] h Q ↔ Q (Sum.inl (some (vI x0))) h := Rn_end pg44 rfl (if_pos hf)
/-! 45 ThrowRulesModel.parent(I)I -/
theorem eX6_parent : Cl r 45 [vR z0, vI x1] h Q ↔ Rn r 45 0 [some (vR z0), some (vI x1), none] [] h Q := Cl_in pg45 rfl
theorem sX6_parent_0 : Rn r 45 0 [l0, some (vI x), l2] [] h Q ↔ Rn r 45 1 [l0, some (vI x), l2] [vI x] h Q := Rn_nx pg45 rfl rfl
theorem sX6_parent_1 : Rn r 45 1 [l0, l1, l2] [vI x0] h Q ↔ Rn r 45 2 [l0, l1, l2] [vI 4, vI x0] h Q := Rn_nx pg45 rfl rfl
theorem sX6_parent_2 : Rn r 45 2 [l0, l1, l2] [vI x0, vI x1] h Q ↔ if x0 ≤ x1 then Rn r 45 24 [l0, l1, l2] [] h Q else Rn r 45 5 [l0, l1, l2] [] h Q := Rn_if pg45 rfl rfl rfl
theorem sX6_parent_5 : Rn r 45 5 [l0, some (vI x), l2] [] h Q ↔ Rn r 45 6 [l0, some (vI x), l2] [vI x] h Q := Rn_nx pg45 rfl rfl
theorem sX6_parent_6 : Rn r 45 6 [l0, l1, l2] [vI x0] h Q ↔ if x0 ≠ 0 then Rn r 45 13 [l0, l1, l2] [] h Q else Rn r 45 9 [l0, l1, l2] [] h Q := Rn_if pg45 rfl rfl rfl
theorem sX6_parent_9 : Rn r 45 9 [l0, l1, l2] [] h Q ↔ Rn r 45 10 [l0, l1, l2] [vI (-1)] h Q := Rn_nx pg45 rfl rfl
theorem sX6_parent_10 : Rn r 45 10 [l0, l1, l2] [vI x0] h Q ↔ Rn r 45 23 [l0, l1, l2] [vI x0] h Q := Rn_nx pg45 rfl rfl
theorem sX6_parent_13 : Rn r 45 13 [l0, some (vI x), l2] [] h Q ↔ Rn r 45 14 [l0, some (vI x), l2] [vI x] h Q := Rn_nx pg45 rfl rfl
theorem sX6_parent_14 : Rn r 45 14 [l0, l1, l2] [vI x0] h Q ↔ Rn r 45 15 [l0, l1, l2] [vI 2, vI x0] h Q := Rn_nx pg45 rfl rfl
theorem sX6_parent_15 : Rn r 45 15 [l0, l1, l2] [vI x0, vI x1] h Q ↔ if x1 ≠ x0 then Rn r 45 22 [l0, l1, l2] [] h Q else Rn r 45 18 [l0, l1, l2] [] h Q := Rn_if pg45 rfl rfl rfl
theorem sX6_parent_18 : Rn r 45 18 [l0, l1, l2] [] h Q ↔ Rn r 45 19 [l0, l1, l2] [vI 1] h Q := Rn_nx pg45 rfl rfl
theorem sX6_parent_19 : Rn r 45 19 [l0, l1, l2] [vI x0] h Q ↔ Rn r 45 23 [l0, l1, l2] [vI x0] h Q := Rn_nx pg45 rfl rfl
theorem sX6_parent_22 : Rn r 45 22 [l0, l1, l2] [] h Q ↔ Rn r 45 23 [l0, l1, l2] [vI 0] h Q := Rn_nx pg45 rfl rfl
theorem sX6_parent_23 : Rn r 45 23 [l0, l1, l2] [vI x0] h Q ↔ Q (Sum.inl (some (vI x0))) h := Rn_end pg45 rfl rfl
theorem sX6_parent_24 : Rn r 45 24 [some (vR z), l1, l2] [] h Q ↔ Rn r 45 25 [some (vR z), l1, l2] [vR z] h Q := Rn_nx pg45 rfl rfl
theorem sX6_parent_25 : Rn r 45 25 [some (vR z), l1, l2] [vR z0] h Q ↔ Rn r 45 26 [some (vR z), l1, l2] [vR z, vR z0] h Q := Rn_nx pg45 rfl rfl
theorem sX6_parent_26 (hk : hK h a0 = 15) : Rn r 45 26 [l0, l1, l2] [vR (some a0), vR z1] h Q ↔ Rn r 45 29 [l0, l1, l2] [vR (hR h a0 7), vR z1] h Q := Rn_nx pg45 rfl (if_pos ⟨(hk ▸ Nat.le_refl _), (hk ▸ Nat.le_refl _)⟩)
theorem sX6_parent_29 : Rn r 45 29 [some (vR z), l1, l2] [vR z0, vR z1] h Q ↔ Rn r 45 30 [some (vR z), l1, l2] [vR z, vR z0, vR z1] h Q := Rn_nx pg45 rfl rfl
theorem sX6_parent_30 (hk : hK h a0 = 15) : Rn r 45 30 [l0, l1, l2] [vR (some a0), vR z1, vR z2] h Q ↔ Rn r 45 33 [l0, l1, l2] [vI (hI h a0 2), vR z1, vR z2] h Q := Rn_nx pg45 rfl (if_pos ⟨(hk ▸ Nat.le_refl _), (hk ▸ Nat.le_refl _)⟩)
theorem sX6_parent_33 : Rn r 45 33 [l0, l1, l2] [vI x0, vR z1, vR z2] h Q ↔ Rn r 45 35 [l0, l1, l2] [vI 16, vI x0, vR z1, vR z2] h Q := Rn_nx pg45 rfl rfl
theorem sX6_parent_35 : Rn r 45 35 [l0, l1, l2] [vI x0, vI x1, vR z2, vR z3] h Q ↔ Rn r 45 36 [l0, l1, l2] [vI (x1 * x0), vR z2, vR z3] h Q := Rn_nx pg45 rfl rfl
theorem sX6_parent_36 : Rn r 45 36 [l0, some (vI x), l2] [vI x0, vR z1, vR z2] h Q ↔ Rn r 45 37 [l0, some (vI x), l2] [vI x, vI x0, vR z1, vR z2] h Q := Rn_nx pg45 rfl rfl
theorem sX6_parent_37 : Rn r 45 37 [l0, l1, l2] [vI x0, vI x1, vR z2, vR z3] h Q ↔ Rn r 45 38 [l0, l1, l2] [vI (x1 + x0), vR z2, vR z3] h Q := Rn_nx pg45 rfl rfl
theorem sX6_parent_38 (hk : hK h a1 = 42) (hx : ¬ (x0 < 0 ∨ hL h a1 ≤ x0.toNatClampNeg)) : Rn r 45 38 [l0, l1, l2] [vI x0, vR (some a1), vR z2] h Q ↔ Rn r 45 39 [l0, l1, l2] [vL (hJ h a1 x0.toNatClampNeg), vR z2] h Q := Rn_nx pg45 rfl ((if_pos ⟨(hk ▸ Nat.le_refl _), (hk ▸ Nat.le_refl _)⟩).trans (if_neg hx))
theorem sX6_parent_39 : Rn r 45 39 [some (vR z), l1, l2] [vL y0, vR z1] h Q ↔ Rn r 45 40 [some (vR z), l1, l2] [vR z, vL y0, vR z1] h Q := Rn_nx pg45 rfl rfl
theorem sX6_parent_40 (hk : hK h a0 = 15) : Rn r 45 40 [l0, l1, l2] [vR (some a0), vL y1, vR z2] h Q ↔ Rn r 45 43 [l0, l1, l2] [vR (hR h a0 8), vL y1, vR z2] h Q := Rn_nx pg45 rfl (if_pos ⟨(hk ▸ Nat.le_refl _), (hk ▸ Nat.le_refl _)⟩)
theorem sX6_parent_43 : Rn r 45 43 [some (vR z), l1, l2] [vR z0, vL y1, vR z2] h Q ↔ Rn r 45 44 [some (vR z), l1, l2] [vR z, vR z0, vL y1, vR z2] h Q := Rn_nx pg45 rfl rfl
theorem sX6_parent_44 (hk : hK h a0 = 15) : Rn r 45 44 [l0, l1, l2] [vR (some a0), vR z1, vL y2, vR z3] h Q ↔ Rn r 45 47 [l0, l1, l2] [vI (hI h a0 2), vR z1, vL y2, vR z3] h Q := Rn_nx pg45 rfl (if_pos ⟨(hk ▸ Nat.le_refl _), (hk ▸ Nat.le_refl _)⟩)
theorem sX6_parent_47 : Rn r 45 47 [l0, l1, l2] [vI x0, vR z1, vL y2, vR z3] h Q ↔ Rn r 45 49 [l0, l1, l2] [vI 16, vI x0, vR z1, vL y2, vR z3] h Q := Rn_nx pg45 rfl rfl
theorem sX6_parent_49 : Rn r 45 49 [l0, l1, l2] [vI x0, vI x1, vR z2, vL y3, vR z4] h Q ↔ Rn r 45 50 [l0, l1, l2] [vI (x1 * x0), vR z2, vL y3, vR z4] h Q := Rn_nx pg45 rfl rfl
theorem sX6_parent_50 : Rn r 45 50 [l0, some (vI x), l2] [vI x0, vR z1, vL y2, vR z3] h Q ↔ Rn r 45 51 [l0, some (vI x), l2] [vI x, vI x0, vR z1, vL y2, vR z3] h Q := Rn_nx pg45 rfl rfl
theorem sX6_parent_51 : Rn r 45 51 [l0, l1, l2] [vI x0, vI x1, vR z2, vL y3, vR z4] h Q ↔ Rn r 45 52 [l0, l1, l2] [vI (x1 + x0), vR z2, vL y3, vR z4] h Q := Rn_nx pg45 rfl rfl
theorem sX6_parent_52 (hk : 40 ≤ hK h a1) (hk2 : hK h a1 ≤ 41) (hx : ¬ (x0 < 0 ∨ hL h a1 ≤ x0.toNatClampNeg)) : Rn r 45 52 [l0, l1, l2] [vI x0, vR (some a1), vL y2, vR z3] h Q ↔ Rn r 45 53 [l0, l1, l2] [vI (hI h a1 x0.toNatClampNeg), vL y2, vR z3] h Q := Rn_nx pg45 rfl ((if_pos ⟨hk, hk2⟩).trans (if_neg hx))
theorem sX6_parent_53 (hk : hK h a2 = 15) : Rn r 45 53 [l0, l1, l2] [vI x0, vL y1, vR (some a2)] h Q ↔ Cl r 69 [vR (some a2), vL y1, vI x0] h (Kt r 45 56 [l0, l1, l2] [] Q) := Rn_call pg45 rfl (by simp only [am_exec, am_inv, am_pop, am_lk, hk]; rfl) pg69 rfl rfl rfl
theorem sX6_parent_56 : Rn r 45 56 [l0, l1, l2] [vI x0] h Q ↔ Rn r 45 57 [l0, l1, some (vI x0)] [] h Q := Rn_nx pg45 rfl rfl
theorem sX6_parent_57 : Rn r 45 57 [l0, l1, some (vI x)] [] h Q ↔ Rn r 45 58 [l0, l1, some (vI x)] [vI x] h Q := Rn_nx pg45 rfl rfl
theorem sX6_parent_58 : Rn r 45 58 [l0, l1, l2] [vI x0] h Q ↔ Rn r 45 59 [l0, l1, l2] [vI (-1), vI x0] h Q := Rn_nx pg45 rfl rfl
theorem sX6_parent_59 : Rn r 45 59 [l0, l1, l2] [vI x0, vI x1] h Q ↔ if x1 ≠ x0 then Rn r 45 66 [l0, l1, l2] [] h Q else Rn r 45 62 [l0, l1, l2] [] h Q := Rn_if pg45 rfl rfl rfl
theorem sX6_parent_62 : Rn r 45 62 [l0, l1, l2] [] h Q ↔ Rn r 45 63 [l0, l1, l2] [vI 1] h Q := Rn_nx pg45 rfl rfl
theorem sX6_parent_63 : Rn r 45 63 [l0, l1, l2] [vI x0] h Q ↔ Rn r 45 67 [l0, l1, l2] [vI x0] h Q := Rn_nx pg45 rfl rfl
theorem sX6_parent_66 : Rn r 45 66 [l0, l1, some (vI x)] [] h Q ↔ Rn r 45 67 [l0, l1, some (vI x)] [vI x] h Q := Rn_nx pg45 rfl rfl
theorem sX6_parent_67 : Rn r 45 67 [l0, l1, l2] [vI x0] h Q ↔ Q (Sum.inl (some (vI x0))) h := Rn_end pg45 rfl rfl
/-! 46 ThrowRulesModel.isChecked(I)Z -/
theorem eX6_isChecked : Cl r 46 [vR z0, vI x1] h Q ↔ Rn r 46 0 [some (vR z0), some (vI x1)] [] h Q := Cl_in pg46 rfl
theorem sX6_isChecked_0 : Rn r 46 0 [some (vR z), l1] [] h Q ↔ Rn r 46 1 [some (vR z), l1] [vR z] h Q := Rn_nx pg46 rfl rfl
theorem sX6_isChecked_1 : Rn r 46 1 [l0, some (vI x)] [vR z0] h Q ↔ Rn r 46 2 [l0, some (vI x)] [vI x, vR z0] h Q := Rn_nx pg46 rfl rfl
theorem sX6_isChecked_2 : Rn r 46 2 [l0, l1] [vI x0, vR z1] h Q ↔ Rn r 46 3 [l0, l1] [vI 2, vI x0, vR z1] h Q := Rn_nx pg46 rfl rfl
theorem sX6_isChecked_3 (hk : hK h a2 = 15) : Rn r 46 3 [l0, l1] [vI x0, vI x1, vR (some a2)] h Q ↔ Cl r 48 [vR (some a2), vI x1, vI x0] h (Kt r 46 6 [l0, l1] [] Q) := Rn_call pg46 rfl (by simp only [am_exec, am_inv, am_pop, am_lk, hk]; rfl) pg48 rfl rfl rfl
theorem sX6_isChecked_6 : Rn r 46 6 [l0, l1] [vI x0] h Q ↔ if x0 ≠ 0 then Rn r 46 22 [l0, l1] [] h Q else Rn r 46 9 [l0, l1] [] h Q := Rn_if pg46 rfl rfl rfl
theorem sX6_isChecked_9 : Rn r 46 9 [some (vR z), l1] [] h Q ↔ Rn r 46 10 [some (vR z), l1] [vR z] h Q := Rn_nx pg46 rfl rfl
theorem sX6_isChecked_10 : Rn r 46 10 [l0, some (vI x)] [vR z0] h Q ↔ Rn r 46 11 [l0, some (vI x)] [vI x, vR z0] h Q := Rn_nx pg46 rfl rfl
theorem sX6_isChecked_11 : Rn r 46 11 [l0, l1] [vI x0, vR z1] h Q ↔ Rn r 46 12 [l0, l1] [vI 3, vI x0, vR z1] h Q := Rn_nx pg46 rfl rfl
theorem sX6_isChecked_12 (hk : hK h a2 = 15) : Rn r 46 12 [l0, l1] [vI x0, vI x1, vR (some a2)] h Q ↔ Cl r 48 [vR (some a2), vI x1, vI x0] h (Kt r 46 15 [l0, l1] [] Q) := Rn_call pg46 rfl (by simp only [am_exec, am_inv, am_pop, am_lk, hk]; rfl) pg48 rfl rfl rfl
theorem sX6_isChecked_15 : Rn r 46 15 [l0, l1] [vI x0] h Q ↔ if x0 ≠ 0 then Rn r 46 22 [l0, l1] [] h Q else Rn r 46 18 [l0, l1] [] h Q := Rn_if pg46 rfl rfl rfl
theorem sX6_isChecked_18 : Rn r 46 18 [l0, l1] [] h Q ↔ Rn r 46 19 [l0, l1] [vI 1] h Q := Rn_nx pg46 rfl rfl
theorem sX6_isChecked_19 : Rn r 46 19 [l0, l1] [vI x0] h Q ↔ Rn r 46 23 [l0, l1] [vI x0] h Q := Rn_nx pg46 rfl rfl
theorem sX6_isChecked_22 : Rn r 46 22 [l0, l1] [] h Q ↔ Rn r 46 23 [l0, l1] [vI 0] h Q := Rn_nx pg46 rfl rfl
theorem sX6_isChecked_23 (hf : am_fit 4 x0 = true) : Rn r 46 23 [l0, l1] [vI x0] h Q ↔ Q (Sum.inl (some (vI x0))) h := Rn_end pg46 rfl (if_pos hf)
/-! 47 ThrowRules$Kind.isBelow(LThrowRules$Kind;)Z -/
theorem eX4_isBelow : Cl r 47 [vR z0, vR z1] h Q ↔ Rn r 47 0 [some (vR z0), some (vR z1), none] [] h Q := Cl_in pg47 rfl
theorem sX4_isBelow_0 : Rn r 47 0 [some (vR z), l1, l2] [] h Q ↔ Rn r 47 1 [some (vR z), l1, l2] [vR z] h Q := Rn_nx pg47 rfl rfl
theorem sX4_isBelow_1 : Rn r 47 1 [l0, l1, l2] [vR z0] h Q ↔ Rn r 47 2 [l0, l1, some (vR z0)] [] h Q := Rn_nx pg47 rfl rfl
theorem sX4_isBelow_2 : Rn r 47 2 [l0, l1, some (vR z)] [] h Q ↔ Rn r 47 3 [l0, l1, some (vR z)] [vR z] h Q := Rn_nx pg47 rfl rfl
theorem sX4_isBelow_3 : Rn r 47 3 [l0, l1, l2] [vR z0] h Q ↔ if z0 = none then Rn r 47 19 [l0, l1, l2] [] h Q else Rn r 47 6 [l0, l1, l2] [] h Q := Rn_if pg47 rfl rfl rfl
theorem sX4_isBelow_6 : Rn r 47 6 [l0, l1, some (vR z)] [] h Q ↔ Rn r 47 7 [l0, l1, some (vR z)] [vR z] h Q := Rn_nx pg47 rfl rfl
theorem sX4_isBelow_7 : Rn r 47 7 [l0, some (vR z), l2] [vR z0] h Q ↔ Rn r 47 8 [l0, some (vR z), l2] [vR z, vR z0] h Q := Rn_nx pg47 rfl rfl
theorem sX4_isBelow_8 : Rn r 47 8 [l0, l1, l2] [vR z0, vR z1] h Q ↔ if z1 = z0 then Rn r 47 19 [l0, l1, l2] [] h Q else Rn r 47 11 [l0, l1, l2] [] h Q := Rn_if pg47 rfl rfl rfl
theorem sX4_isBelow_11 : Rn r 47 11 [l0, l1, some (vR z)] [] h Q ↔ Rn r 47 12 [l0, l1, some (vR z)] [vR z] h Q := Rn_nx pg47 rfl rfl
theorem sX4_isBelow_12 (hk : hK h a0 = 7) : Rn r 47 12 [l0, l1, l2] [vR (some a0)] h Q ↔ Rn r 47 15 [l0, l1, l2] [vR (hR h a0 2)] h Q := Rn_nx pg47 rfl (if_pos ⟨(hk ▸ Nat.le_refl _), (hk ▸ Nat.le_refl _)⟩)
theorem sX4_isBelow_15 : Rn r 47 15 [l0, l1, l2] [vR z0] h Q ↔ Rn r 47 16 [l0, l1, some (vR z0)] [] h Q := Rn_nx pg47 rfl rfl
theorem sX4_isBelow_16 : Rn r 47 16 [l0, l1, l2] [] h Q ↔ Rn r 47 2 [l0, l1, l2] [] h Q := Rn_nx pg47 rfl rfl
theorem sX4_isBelow_19 : Rn r 47 19 [l0, l1, some (vR z)] [] h Q ↔ Rn r 47 20 [l0, l1, some (vR z)] [vR z] h Q := Rn_nx pg47 rfl rfl
theorem sX4_isBelow_20 : Rn r 47 20 [l0, l1, l2] [vR z0] h Q ↔ if z0 = none then Rn r 47 27 [l0, l1, l2] [] h Q else Rn r 47 23 [l0, l1, l2] [] h Q := Rn_if pg47 rfl rfl rfl
theorem sX4_isBelow_23 : Rn r 47 23 [l0, l1, l2] [] h Q ↔ Rn r 47 24 [l0, l1, l2] [vI 1] h Q := Rn_nx pg47 rfl rfl
theorem sX4_isBelow_24 : Rn r 47 24 [l0, l1, l2] [vI x0] h Q ↔ Rn r 47 28 [l0, l1, l2] [vI x0] h Q := Rn_nx pg47 rfl rfl
theorem sX4_isBelow_27 : Rn r 47 27 [l0, l1, l2] [] h Q ↔ Rn r 47 28 [l0, l1, l2] [vI 0] h Q := Rn_nx pg47 rfl rfl
theorem sX4_isBelow_28 (hf : am_fit 4 x0 = true) : Rn r 47 28 [l0, l1, l2] [vI x0] h Q ↔ Q (Sum.inl (some (vI x0))) h := Rn_end pg47 rfl (if_pos hf)
/-! 48 ThrowRulesModel.isBelow(II)Z -/
theorem eX6_isBelow : Cl r 48 [vR z0, vI x1, vI x2] h Q ↔ Rn r 48 0 [some (vR z0), some (vI x1), some (vI x2), none] [] h Q := Cl_in pg48 rfl
theorem sX6_isBelow_0 : Rn r 48 0 [l0, some (vI x), l2, l3] [] h Q ↔ Rn r 48 1 [l0, some (vI x), l2, l3] [vI x] h Q := Rn_nx pg48 rfl rfl
theorem sX6_isBelow_1 : Rn r 48 1 [l0, l1, l2, l3] [vI x0] h Q ↔ Rn r 48 2 [l0, l1, l2, some (vI x0)] [] h Q := Rn_nx pg48 rfl rfl
theorem sX6_isBelow_2 : Rn r 48 2 [l0, l1, l2, some (vI x)] [] h Q ↔ Rn r 48 3 [l0, l1, l2, some (vI x)] [vI x] h Q := Rn_nx pg48 rfl rfl
theorem sX6_isBelow_3 : Rn r 48 3 [l0, l1, l2, l3] [vI x0] h Q ↔ Rn r 48 4 [l0, l1, l2, l3] [vI (-1), vI x0] h Q := Rn_nx pg48 rfl rfl
theorem sX6_isBelow_4 : Rn r 48 4 [l0, l1, l2, l3] [vI x0, vI x1] h Q ↔ if x1 = x0 then Rn r 48 21 [l0, l1, l2, l3] [] h Q else Rn r 48 7 [l0, l1, l2, l3] [] h Q := Rn_if pg48 rfl rfl rfl
theorem sX6_isBelow_7 : Rn r 48 7 [l0, l1, l2, some (vI x)] [] h Q ↔ Rn r 48 8 [l0, l1, l2, some (vI x)] [vI x] h Q := Rn_nx pg48 rfl rfl
theorem sX6_isBelow_8 : Rn r 48 8 [l0, l1, some (vI x), l3] [vI x0] h Q ↔ Rn r 48 9 [l0, l1, some (vI x), l3] [vI x, vI x0] h Q := Rn_nx pg48 rfl rfl
theorem sX6_isBelow_9 : Rn r 48 9 [l0, l1, l2, l3] [vI x0, vI x1] h Q ↔ if x1 = x0 then Rn r 48 21 [l0, l1, l2, l3] [] h Q else Rn r 48 12 [l0, l1, l2, l3] [] h Q := Rn_if pg48 rfl rfl rfl
theorem sX6_isBelow_12 : Rn r 48 12 [some (vR z), l1, l2, l3] [] h Q ↔ Rn r 48 13 [some (vR z), l1, l2, l3] [vR z] h Q := Rn_nx pg48 rfl rfl
theorem sX6_isBelow_13 : Rn r 48 13 [l0, l1, l2, some (vI x)] [vR z0] h Q ↔ Rn r 48 14 [l0, l1, l2, some (vI x)] [vI x, vR z0] h Q := Rn_nx pg48 rfl rfl
theorem sX6_isBelow_14 (hk : hK h a1 = 15) : Rn r 48 14 [l0, l1, l2, l3] [vI x0, vR (some a1)] h Q ↔ Cl r 45 [vR (some a1), vI x0] h (Kt r 48 17 [l0, l1, l2, l3] [] Q) := Rn_call pg48 rfl (by simp only [am_exec, am_inv, am_pop, am_lk, hk]; rfl) pg45 rfl rfl rfl
theorem sX6_isBelow_17 : Rn r 48 17 [l0, l1, l2, l3] [vI x0] h Q ↔ Rn r 48 18 [l0, l1, l2, some (vI x0)] [] h Q := Rn_nx pg48 rfl rfl
theorem sX6_isBelow_18 : Rn r 48 18 [l0, l1, l2, l3] [] h Q ↔ Rn r 48 2 [l0, l1, l2, l3] [] h Q := Rn_nx pg48 rfl rfl
theorem sX6_isBelow_21 : Rn r 48 21 [l0, l1, l2, some (vI x)] [] h Q ↔ Rn r 48 22 [l0, l1, l2, some (vI x)] [vI x] h Q := Rn_nx pg48 rfl rfl
theorem sX6_isBelow_22 : Rn r 48 22 [l0, l1, some (vI x), l3] [vI x0] h Q ↔ Rn r 48 23 [l0, l1, some (vI x), l3] [vI x, vI x0] h Q := Rn_nx pg48 rfl rfl
theorem sX6_isBelow_23 : Rn r 48 23 [l0, l1, l2, l3] [vI x0, vI x1] h Q ↔ if x1 ≠ x0 then Rn r 48 30 [l0, l1, l2, l3] [] h Q else Rn r 48 26 [l0, l1, l2, l3] [] h Q := Rn_if pg48 rfl rfl rfl
theorem sX6_isBelow_26 : Rn r 48 26 [l0, l1, l2, l3] [] h Q ↔ Rn r 48 27 [l0, l1, l2, l3] [vI 1] h Q := Rn_nx pg48 rfl rfl
theorem sX6_isBelow_27 : Rn r 48 27 [l0, l1, l2, l3] [vI x0] h Q ↔ Rn r 48 31 [l0, l1, l2, l3] [vI x0] h Q := Rn_nx pg48 rfl rfl
theorem sX6_isBelow_30 : Rn r 48 30 [l0, l1, l2, l3] [] h Q ↔ Rn r 48 31 [l0, l1, l2, l3] [vI 0] h Q := Rn_nx pg48 rfl rfl
theorem sX6_isBelow_31 (hf : am_fit 4 x0 = true) : Rn r 48 31 [l0, l1, l2, l3] [vI x0] h Q ↔ Q (Sum.inl (some (vI x0))) h := Rn_end pg48 rfl (if_pos hf)
/-! 49 ThrowRules$Unit.bitsOf(Ljava/util/ArrayList;)I -/
theorem eX3_bitsOf : Cl r 49 [vR z0, vR z1] h Q ↔ Rn r 49 0 [some (vR z0), some (vR z1), none, none] [] h Q := Cl_in pg49 rfl
theorem sX3_bitsOf_0 : Rn r 49 0 [l0, l1, l2, l3] [] h Q ↔ Rn r 49 1 [l0, l1, l2, l3] [vI 0] h Q := Rn_nx pg49 rfl rfl
theorem sX3_bitsOf_1 : Rn r 49 1 [l0, l1, l2, l3] [vI x0] h Q ↔ Rn r 49 2 [l0, l1, some (vI x0), l3] [] h Q := Rn_nx pg49 rfl rfl
theorem sX3_bitsOf_2 : Rn r 49 2 [l0, l1, l2, l3] [] h Q ↔ Rn r 49 3 [l0, l1, l2, l3] [vI 0] h Q := Rn_nx pg49 rfl rfl
theorem sX3_bitsOf_3 : Rn r 49 3 [l0, l1, l2, l3] [vI x0] h Q ↔ Rn r 49 4 [l0, l1, l2, some (vI x0)] [] h Q := Rn_nx pg49 rfl rfl
theorem sX3_bitsOf_4 : Rn r 49 4 [l0, l1, l2, some (vI x)] [] h Q ↔ Rn r 49 5 [l0, l1, l2, some (vI x)] [vI x] h Q := Rn_nx pg49 rfl rfl
theorem sX3_bitsOf_5 : Rn r 49 5 [l0, some (vR z), l2, l3] [vI x0] h Q ↔ Rn r 49 6 [l0, some (vR z), l2, l3] [vR z, vI x0] h Q := Rn_nx pg49 rfl rfl
theorem sX3_bitsOf_6 (hk : hK h a0 = 4) : Rn r 49 6 [l0, l1, l2, l3] [vR (some a0), vI x1] h Q ↔ Cl r 34 [vR (some a0)] h (Kt r 49 9 [l0, l1, l2, l3] [vI x1] Q) := Rn_call pg49 rfl (by simp only [am_exec, am_inv, am_pop, am_lk, hk]; rfl) pg34 rfl rfl rfl
theorem sX3_bitsOf_9 : Rn r 49 9 [l0, l1, l2, l3] [vI x0, vI x1] h Q ↔ if x0 ≤ x1 then Rn r 49 55 [l0, l1, l2, l3] [] h Q else Rn r 49 12 [l0, l1, l2, l3] [] h Q := Rn_if pg49 rfl rfl rfl
theorem sX3_bitsOf_12 : Rn r 49 12 [l0, l1, some (vI x), l3] [] h Q ↔ Rn r 49 13 [l0, l1, some (vI x), l3] [vI x] h Q := Rn_nx pg49 rfl rfl
theorem sX3_bitsOf_13 : Rn r 49 13 [l0, some (vR z), l2, l3] [vI x0] h Q ↔ Rn r 49 14 [l0, some (vR z), l2, l3] [vR z, vI x0] h Q := Rn_nx pg49 rfl rfl
theorem sX3_bitsOf_14 : Rn r 49 14 [l0, l1, l2, some (vI x)] [vR z0, vI x1] h Q ↔ Rn r 49 15 [l0, l1, l2, some (vI x)] [vI x, vR z0, vI x1] h Q := Rn_nx pg49 rfl rfl
theorem sX3_bitsOf_15 (hk : hK h a1 = 4) : Rn r 49 15 [l0, l1, l2, l3] [vI x0, vR (some a1), vI x2] h Q ↔ Cl r 43 [vR (some a1), vI x0] h (Kt r 49 18 [l0, l1, l2, l3] [vI x2] Q) := Rn_call pg49 rfl (by simp only [am_exec, am_inv, am_pop, am_lk, hk]; rfl) pg43 rfl rfl rfl
theorem sX3_bitsOf_18_n : Rn r 49 18 [l0, l1, l2, l3] [vR none, vI x1] h Q ↔ Rn r 49 21 [l0, l1, l2, l3] [vR none, vI x1] h Q := Rn_nx pg49 rfl rfl
theorem sX3_bitsOf_18 (hk : hK h a0 ∈ [19]) : Rn r 49 18 [l0, l1, l2, l3] [vR (some a0), vI x1] h Q ↔ Rn r 49 21 [l0, l1, l2, l3] [vR (some a0), vI x1] h Q := Rn_nx pg49 rfl (if_pos hk)
theorem sX3_bitsOf_21 (hk : hK h a0 = 19) : Rn r 49 21 [l0, l1, l2, l3] [vR (some a0), vI x1] h Q ↔ Rn r 49 24 [l0, l1, l2, l3] [vR (hR h a0 0), vI x1] h Q := Rn_nx pg49 rfl (if_pos ⟨(hk ▸ Nat.le_refl _), (hk ▸ Nat.le_refl _)⟩)
theorem sX3_bitsOf_24 : Rn r 49 24 [l0, l1, l2, l3] [vR z0, vI x1] h Q ↔ if z0 ≠ none then Rn r 49 31 [l0, l1, l2, l3] [vI x1] h Q else Rn r 49 27 [l0, l1, l2, l3] [vI x1] h Q := Rn_if pg49 rfl rfl rfl
theorem sX3_bitsOf_27 : Rn r 49 27 [l0, l1, l2, l3] [vI x0] h Q ↔ Rn r 49 28 [l0, l1, l2, l3] [vI 0, vI x0] h Q := Rn_nx pg49 rfl rfl
theorem sX3_bitsOf_28 : Rn r 49 28 [l0, l1, l2, l3] [vI x0, vI x1] h Q ↔ Rn r 49 47 [l0, l1, l2, l3] [vI x0, vI x1] h Q := Rn_nx pg49 rfl rfl
theorem sX3_bitsOf_31 : Rn r 49 31 [l0, l1, l2, l3] [vI x0] h Q ↔ Rn r 49 32 [l0, l1, l2, l3] [vI 1, vI x0] h Q := Rn_nx pg49 rfl rfl
theorem sX3_bitsOf_32 : Rn r 49 32 [l0, some (vR z), l2, l3] [vI x0, vI x1] h Q ↔ Rn r 49 33 [l0, some (vR z), l2, l3] [vR z, vI x0, vI x1] h Q := Rn_nx pg49 rfl rfl
theorem sX3_bitsOf_33 : Rn r 49 33 [l0, l1, l2, some (vI x)] [vR z0, vI x1, vI x2] h Q ↔ Rn r 49 34 [l0, l1, l2, some (vI x)] [vI x, vR z0, vI x1, vI x2] h Q := Rn_nx pg49 rfl rfl
theorem sX3_bitsOf_34 (hk : hK h a1 = 4) : Rn r 49 34 [l0, l1, l2, l3] [vI x0, vR (some a1), vI x2, vI x3] h Q ↔ Cl r 43 [vR (some a1), vI x0] h (Kt r 49 37 [l0, l1, l2, l3] [vI x2, vI x3] Q) := Rn_call pg49 rfl (by simp only [am_exec, am_inv, am_pop, am_lk, hk]; rfl) pg43 rfl rfl rfl
theorem sX3_bitsOf_37_n : Rn r 49 37 [l0, l1, l2, l3] [vR none, vI x1, vI x2] h Q ↔ Rn r 49 40 [l0, l1, l2, l3] [vR none, vI x1, vI x2] h Q := Rn_nx pg49 rfl rfl
theorem sX3_bitsOf_37 (hk : hK h a0 ∈ [19]) : Rn r 49 37 [l0, l1, l2, l3] [vR (some a0), vI x1, vI x2] h Q ↔ Rn r 49 40 [l0, l1, l2, l3] [vR (some a0), vI x1, vI x2] h Q := Rn_nx pg49 rfl (if_pos hk)
theorem sX3_bitsOf_40 (hk : hK h a0 = 19) : Rn r 49 40 [l0, l1, l2, l3] [vR (some a0), vI x1, vI x2] h Q ↔ Rn r 49 43 [l0, l1, l2, l3] [vR (hR h a0 0), vI x1, vI x2] h Q := Rn_nx pg49 rfl (if_pos ⟨(hk ▸ Nat.le_refl _), (hk ▸ Nat.le_refl _)⟩)
theorem sX3_bitsOf_43 (hk : hK h a0 = 7) : Rn r 49 43 [l0, l1, l2, l3] [vR (some a0), vI x1, vI x2] h Q ↔ Rn r 49 46 [l0, l1, l2, l3] [vI (hI h a0 1), vI x1, vI x2] h Q := Rn_nx pg49 rfl (if_pos ⟨(hk ▸ Nat.le_refl _), (hk ▸ Nat.le_refl _)⟩)
theorem sX3_bitsOf_46 : Rn r 49 46 [l0, l1, l2, l3] [vI x0, vI x1, vI x2] h Q ↔ Rn r 49 47 [l0, l1, l2, l3] [vI (x1 <<< (x0 &&& 31)), vI x2] h Q := Rn_nx pg49 rfl rfl
theorem sX3_bitsOf_47 : Rn r 49 47 [l0, l1, l2, l3] [vI x0, vI x1] h Q ↔ Rn r 49 48 [l0, l1, l2, l3] [vI (x1 ||| x0)] h Q := Rn_nx pg49 rfl rfl
theorem sX3_bitsOf_48 : Rn r 49 48 [l0, l1, l2, l3] [vI x0] h Q ↔ Rn r 49 49 [l0, l1, some (vI x0), l3] [] h Q := Rn_nx pg49 rfl rfl
theorem sX3_bitsOf_49 : Rn r 49 49 [l0, l1, l2, some (vI x)] [] h Q ↔ Rn r 49 52 [l0, l1, l2, some (vI (x + 1))] [] h Q := Rn_nx pg49 rfl rfl
theorem sX3_bitsOf_52 : Rn r 49 52 [l0, l1, l2, l3] [] h Q ↔ Rn r 49 4 [l0, l1, l2, l3] [] h Q := Rn_nx pg49 rfl rfl
theorem sX3_bitsOf_55 : Rn r 49 55 [l0, l1, some (vI x), l3] [] h Q ↔ Rn r 49 56 [l0, l1, some (vI x), l3] [vI x] h Q := Rn_nx pg49 rfl rfl
theorem sX3_bitsOf_56 : Rn r 49 56 [l0, l1, l2, l3] [vI x0] h Q ↔ Q (Sum.inl (some (vI x0))) h := Rn_end pg49 rfl rfl
/-! 50 ThrowRulesModel.blockCan(I)I -/
theorem eX6_blockCan : Cl r 50 [vR z0, vI x1] h Q ↔ Rn r 50 0 [some (vR z0), some (vI x1), none, none] [] h Q := Cl_in pg50 rfl
theorem sX6_blockCan_0 : Rn r 50 0 [l0, l1, l2, l3] [] h Q ↔ Rn r 50 1 [l0, l1, l2, l3] [vI 0] h Q := Rn_nx pg50 rfl rfl
theorem sX6_blockCan_1 : Rn r 50 1 [l0, l1, l2, l3] [vI x0] h Q ↔ Rn r 50 2 [l0, l1, some (vI x0), l3] [] h Q := Rn_nx pg50 rfl rfl
theorem sX6_blockCan_2 : Rn r 50 2 [l0, some (vI x), l2, l3] [] h Q ↔ Rn r 50 3 [l0, some (vI x), l2, l3] [vI x] h Q := Rn_nx pg50 rfl rfl
theorem sX6_blockCan_3 : Rn r 50 3 [l0, l1, l2, l3] [vI x0] h Q ↔ Rn r 50 4 [l0, l1, l2, l3] [vI (-1), vI x0] h Q := Rn_nx pg50 rfl rfl
theorem sX6_blockCan_4 : Rn r 50 4 [l0, l1, l2, l3] [vI x0, vI x1] h Q ↔ if x1 ≠ x0 then Rn r 50 11 [l0, l1, l2, l3] [] h Q else Rn r 50 7 [l0, l1, l2, l3] [] h Q := Rn_if pg50 rfl rfl rfl
theorem sX6_blockCan_7 : Rn r 50 7 [l0, l1, l2, l3] [] h Q ↔ Rn r 50 8 [l0, l1, l2, l3] [vI (-1)] h Q := Rn_nx pg50 rfl rfl
theorem sX6_blockCan_8 : Rn r 50 8 [l0, l1, l2, l3] [vI x0] h Q ↔ Rn r 50 17 [l0, l1, l2, l3] [vI x0] h Q := Rn_nx pg50 rfl rfl
theorem sX6_blockCan_11 : Rn r 50 11 [some (vR z), l1, l2, l3] [] h Q ↔ Rn r 50 12 [some (vR z), l1, l2, l3] [vR z] h Q := Rn_nx pg50 rfl rfl
theorem sX6_blockCan_12 (hk : hK h a0 = 15) : Rn r 50 12 [l0, l1, l2, l3] [vR (some a0)] h Q ↔ Rn r 50 15 [l0, l1, l2, l3] [vR (hR h a0 45)] h Q := Rn_nx pg50 rfl (if_pos ⟨(hk ▸ Nat.le_refl _), (hk ▸ Nat.le_refl _)⟩)
theorem sX6_blockCan_15 : Rn r 50 15 [l0, some (vI x), l2, l3] [vR z0] h Q ↔ Rn r 50 16 [l0, some (vI x), l2, l3] [vI x, vR z0] h Q := Rn_nx pg50 rfl rfl
theorem sX6_blockCan_16 (hk : 40 ≤ hK h a1) (hk2 : hK h a1 ≤ 41) (hx : ¬ (x0 < 0 ∨ hL h a1 ≤ x0.toNatClampNeg)) : Rn r 50 16 [l0, l1, l2, l3] [vI x0, vR (some a1)] h Q ↔ Rn r 50 17 [l0, l1, l2, l3] [vI (hI h a1 x0.toNatClampNeg)] h Q := Rn_nx pg50 rfl ((if_pos ⟨hk, hk2⟩).trans (if_neg hx))
theorem sX6_blockCan_17 : Rn r 50 17 [l0, l1, l2, l3] [vI x0] h Q ↔ Rn r 50 18 [l0, l1, l2, some (vI x0)] [] h Q := Rn_nx pg50 rfl rfl
theorem sX6_blockCan_18 : Rn r 50 18 [l0, l1, l2, some (vI x)] [] h Q ↔ Rn r 50 19 [l0, l1, l2, some (vI x)] [vI x] h Q := Rn_nx pg50 rfl rfl
theorem sX6_blockCan_19 : Rn r 50 19 [l0, l1, l2, l3] [vI x0] h Q ↔ Rn r 50 20 [l0, l1, l2, l3] [vI (-1), vI x0] h Q := Rn_nx pg50 rfl rfl
theorem sX6_blockCan_20 : Rn r 50 20 [l0, l1, l2, l3] [vI x0, vI x1] h Q ↔ if x1 = x0 then Rn r 50 42 [l0, l1, l2, l3] [] h Q else Rn r 50 23 [l0, l1, l2, l3] [] h Q := Rn_if pg50 rfl rfl rfl
theorem sX6_blockCan_23 : Rn r 50 23 [l0, l1, some (vI x), l3] [] h Q ↔ Rn r 50 24 [l0, l1, some (vI x), l3] [vI x] h Q := Rn_nx pg50 rfl rfl
theorem sX6_blockCan_24 : Rn r 50 24 [some (vR z), l1, l2, l3] [vI x0] h Q ↔ Rn r 50 25 [some (vR z), l1, l2, l3] [vR z, vI x0] h Q := Rn_nx pg50 rfl rfl
theorem sX6_blockCan_25 (hk : hK h a0 = 15) : Rn r 50 25 [l0, l1, l2, l3] [vR (some a0), vI x1] h Q ↔ Rn r 50 28 [l0, l1, l2, l3] [vR (hR h a0 58), vI x1] h Q := Rn_nx pg50 rfl (if_pos ⟨(hk ▸ Nat.le_refl _), (hk ▸ Nat.le_refl _)⟩)
theorem sX6_blockCan_28 : Rn r 50 28 [l0, l1, l2, some (vI x)] [vR z0, vI x1] h Q ↔ Rn r 50 29 [l0, l1, l2, some (vI x)] [vI x, vR z0, vI x1] h Q := Rn_nx pg50 rfl rfl
theorem sX6_blockCan_29 (hk : 40 ≤ hK h a1) (hk2 : hK h a1 ≤ 41) (hx : ¬ (x0 < 0 ∨ hL h a1 ≤ x0.toNatClampNeg)) : Rn r 50 29 [l0, l1, l2, l3] [vI x0, vR (some a1), vI x2] h Q ↔ Rn r 50 30 [l0, l1, l2, l3] [vI (hI h a1 x0.toNatClampNeg), vI x2] h Q := Rn_nx pg50 rfl ((if_pos ⟨hk, hk2⟩).trans (if_neg hx))
theorem sX6_blockCan_30 : Rn r 50 30 [l0, l1, l2, l3] [vI x0, vI x1] h Q ↔ Rn r 50 31 [l0, l1, l2, l3] [vI (x1 ||| x0)] h Q := Rn_nx pg50 rfl rfl
theorem sX6_blockCan_31 : Rn r 50 31 [l0, l1, l2, l3] [vI x0] h Q ↔ Rn r 50 32 [l0, l1, some (vI x0), l3] [] h Q := Rn_nx pg50 rfl rfl
theorem sX6_blockCan_32 : Rn r 50 32 [some (vR z), l1, l2, l3] [] h Q ↔ Rn r 50 33 [some (vR z), l1, l2, l3] [vR z] h Q := Rn_nx pg50 rfl rfl
theorem sX6_blockCan_33 (hk : hK h a0 = 15) : Rn r 50 33 [l0, l1, l2, l3] [vR (some a0)] h Q ↔ Rn r 50 36 [l0, l1, l2, l3] [vR (hR h a0 24)] h Q := Rn_nx pg50 rfl (if_pos ⟨(hk ▸ Nat.le_refl _), (hk ▸ Nat.le_refl _)⟩)
theorem sX6_blockCan_36 : Rn r 50 36 [l0, l1, l2, some (vI x)] [vR z0] h Q ↔ Rn r 50 37 [l0, l1, l2, some (vI x)] [vI x, vR z0] h Q := Rn_nx pg50 rfl rfl
theorem sX6_blockCan_37 (hk : 40 ≤ hK h a1) (hk2 : hK h a1 ≤ 41) (hx : ¬ (x0 < 0 ∨ hL h a1 ≤ x0.toNatClampNeg)) : Rn r 50 37 [l0, l1, l2, l3] [vI x0, vR (some a1)] h Q ↔ Rn r 50 38 [l0, l1, l2, l3] [vI (hI h a1 x0.toNatClampNeg)] h Q := Rn_nx pg50 rfl ((if_pos ⟨hk, hk2⟩).trans (if_neg hx))
theorem sX6_blockCan_38 : Rn r 50 38 [l0, l1, l2, l3] [vI x0] h Q ↔ Rn r 50 39 [l0, l1, l2, some (vI x0)] [] h Q := Rn_nx pg50 rfl rfl
theorem sX6_blockCan_39 : Rn r 50 39 [l0, l1, l2, l3] [] h Q ↔ Rn r 50 18 [l0, l1, l2, l3] [] h Q := Rn_nx pg50 rfl rfl
theorem sX6_blockCan_42 : Rn r 50 42 [l0, l1, some (vI x), l3] [] h Q ↔ Rn r 50 43 [l0, l1, some (vI x), l3] [vI x] h Q := Rn_nx pg50 rfl rfl
theorem sX6_blockCan_43 : Rn r 50 43 [l0, l1, l2, l3] [vI x0] h Q ↔ Q (Sum.inl (some (vI x0))) h := Rn_end pg50 rfl rfl
/-! 51 ThrowRulesModel.throwsOf(I)I -/
theorem eX6_throwsOf : Cl r 51 [vR z0, vI x1] h Q ↔ Rn r 51 0 [some (vR z0), some (vI x1), none, none, none] [] h Q := Cl_in pg51 rfl
theorem sX6_throwsOf_0 : Rn r 51 0 [l0, l1, l2, l3, l4] [] h Q ↔ Rn r 51 1 [l0, l1, l2, l3, l4] [vI 0] h Q := Rn_nx pg51 rfl rfl
theorem sX6_throwsOf_1 : Rn r 51 1 [l0, l1, l2, l3, l4] [vI x0] h Q ↔ Rn r 51 2 [l0, l1, some (vI x0), l3, l4] [] h Q := Rn_nx pg51 rfl rfl
theorem sX6_throwsOf_2 : Rn r 51 2 [some (vR z), l1, l2, l3, l4] [] h Q ↔ Rn r 51 3 [some (vR z), l1, l2, l3, l4] [vR z] h Q := Rn_nx pg51 rfl rfl
theorem sX6_throwsOf_3 (hk : hK h a0 = 15) : Rn r 51 3 [l0, l1, l2, l3, l4] [vR (some a0)] h Q ↔ Rn r 51 6 [l0, l1, l2, l3, l4] [vI (hI h a0 2)] h Q := Rn_nx pg51 rfl (if_pos ⟨(hk ▸ Nat.le_refl _), (hk ▸ Nat.le_refl _)⟩)
theorem sX6_throwsOf_6 : Rn r 51 6 [l0, l1, l2, l3, l4] [vI x0] h Q ↔ Rn r 51 8 [l0, l1, l2, l3, l4] [vI 12, vI x0] h Q := Rn_nx pg51 rfl rfl
theorem sX6_throwsOf_8 : Rn r 51 8 [l0, l1, l2, l3, l4] [vI x0, vI x1] h Q ↔ Rn r 51 9 [l0, l1, l2, l3, l4] [vI (x1 * x0)] h Q := Rn_nx pg51 rfl rfl
theorem sX6_throwsOf_9 : Rn r 51 9 [l0, some (vI x), l2, l3, l4] [vI x0] h Q ↔ Rn r 51 10 [l0, some (vI x), l2, l3, l4] [vI x, vI x0] h Q := Rn_nx pg51 rfl rfl
theorem sX6_throwsOf_10 : Rn r 51 10 [l0, l1, l2, l3, l4] [vI x0, vI x1] h Q ↔ Rn r 51 11 [l0, l1, l2, l3, l4] [vI (x1 + x0)] h Q := Rn_nx pg51 rfl rfl
theorem sX6_throwsOf_11 : Rn r 51 11 [l0, l1, l2, l3, l4] [vI x0] h Q ↔ Rn r 51 12 [l0, l1, l2, some (vI x0), l4] [] h Q := Rn_nx pg51 rfl rfl
theorem sX6_throwsOf_12 : Rn r 51 12 [l0, l1, l2, l3, l4] [] h Q ↔ Rn r 51 13 [l0, l1, l2, l3, l4] [vI 0] h Q := Rn_nx pg51 rfl rfl
theorem sX6_throwsOf_13 : Rn r 51 13 [l0, l1, l2, l3, l4] [vI x0] h Q ↔ Rn r 51 15 [l0, l1, l2, l3, some (vI x0)] [] h Q := Rn_nx pg51 rfl rfl
theorem sX6_throwsOf_15 : Rn r 51 15 [l0, some (vI x), l2, l3, l4] [] h Q ↔ Rn r 51 16 [l0, some (vI x), l2, l3, l4] [vI x] h Q := Rn_nx pg51 rfl rfl
theorem sX6_throwsOf_16 : Rn r 51 16 [l0, l1, l2, l3, l4] [vI x0] h Q ↔ Rn r 51 17 [l0, l1, l2, l3, l4] [vI (-1), vI x0] h Q := Rn_nx pg51 rfl rfl
theorem sX6_throwsOf_17 : Rn r 51 17 [l0, l1, l2, l3, l4] [vI x0, vI x1] h Q ↔ if x1 = x0 then Rn r 51 69 [l0, l1, l2, l3, l4] [] h Q else Rn r 51 20 [l0, l1, l2, l3, l4] [] h Q := Rn_if pg51 rfl rfl rfl
theorem sX6_throwsOf_20 : Rn r 51 20 [l0, l1, l2, l3, some (vI x)] [] h Q ↔ Rn r 51 22 [l0, l1, l2, l3, some (vI x)] [vI x] h Q := Rn_nx pg51 rfl rfl
theorem sX6_throwsOf_22 : Rn r 51 22 [some (vR z), l1, l2, l3, l4] [vI x0] h Q ↔ Rn r 51 23 [some (vR z), l1, l2, l3, l4] [vR z, vI x0] h Q := Rn_nx pg51 rfl rfl
theorem sX6_throwsOf_23 (hk : hK h a0 = 15) : Rn r 51 23 [l0, l1, l2, l3, l4] [vR (some a0), vI x1] h Q ↔ Rn r 51 26 [l0, l1, l2, l3, l4] [vR (hR h a0 15), vI x1] h Q := Rn_nx pg51 rfl (if_pos ⟨(hk ▸ Nat.le_refl _), (hk ▸ Nat.le_refl _)⟩)
theorem sX6_throwsOf_26 : Rn r 51 26 [l0, l1, l2, some (vI x), l4] [vR z0, vI x1] h Q ↔ Rn r 51 27 [l0, l1, l2, some (vI x), l4] [vI x, vR z0, vI x1] h Q := Rn_nx pg51 rfl rfl
theorem sX6_throwsOf_27 (hk : 40 ≤ hK h a1) (hk2 : hK h a1 ≤ 41) (hx : ¬ (x0 < 0 ∨ hL h a1 ≤ x0.toNatClampNeg)) : Rn r 51 27 [l0, l1, l2, l3, l4] [vI x0, vR (some a1), vI x2] h Q ↔ Rn r 51 28 [l0, l1, l2, l3, l4] [vI (hI h a1 x0.toNatClampNeg), vI x2] h Q := Rn_nx pg51 rfl ((if_pos ⟨hk, hk2⟩).trans (if_neg hx))
theorem sX6_throwsOf_28 : Rn r 51 28 [l0, l1, l2, l3, l4] [vI x0, vI x1] h Q ↔ if x0 ≤ x1 then Rn r 51 69 [l0, l1, l2, l3, l4] [] h Q else Rn r 51 31 [l0, l1, l2, l3, l4] [] h Q := Rn_if pg51 rfl rfl rfl
theorem sX6_throwsOf_31 : Rn r 51 31 [l0, l1, some (vI x), l3, l4] [] h Q ↔ Rn r 51 32 [l0, l1, some (vI x), l3, l4] [vI x] h Q := Rn_nx pg51 rfl rfl
theorem sX6_throwsOf_32 : Rn r 51 32 [some (vR z), l1, l2, l3, l4] [vI x0] h Q ↔ Rn r 51 33 [some (vR z), l1, l2, l3, l4] [vR z, vI x0] h Q := Rn_nx pg51 rfl rfl
theorem sX6_throwsOf_33 : Rn r 51 33 [some (vR z), l1, l2, l3, l4] [vR z0, vI x1] h Q ↔ Rn r 51 34 [some (vR z), l1, l2, l3, l4] [vR z, vR z0, vI x1] h Q := Rn_nx pg51 rfl rfl
theorem sX6_throwsOf_34 (hk : hK h a0 = 15) : Rn r 51 34 [l0, l1, l2, l3, l4] [vR (some a0), vR z1, vI x2] h Q ↔ Rn r 51 37 [l0, l1, l2, l3, l4] [vR (hR h a0 16), vR z1, vI x2] h Q := Rn_nx pg51 rfl (if_pos ⟨(hk ▸ Nat.le_refl _), (hk ▸ Nat.le_refl _)⟩)
theorem sX6_throwsOf_37 : Rn r 51 37 [l0, l1, l2, l3, l4] [vR z0, vR z1, vI x2] h Q ↔ Rn r 51 38 [l0, l1, l2, l3, l4] [vI 4, vR z0, vR z1, vI x2] h Q := Rn_nx pg51 rfl rfl
theorem sX6_throwsOf_38 : Rn r 51 38 [l0, l1, l2, some (vI x), l4] [vI x0, vR z1, vR z2, vI x3] h Q ↔ Rn r 51 39 [l0, l1, l2, some (vI x), l4] [vI x, vI x0, vR z1, vR z2, vI x3] h Q := Rn_nx pg51 rfl rfl
theorem sX6_throwsOf_39 : Rn r 51 39 [l0, l1, l2, l3, l4] [vI x0, vI x1, vR z2, vR z3, vI x4] h Q ↔ Rn r 51 40 [l0, l1, l2, l3, l4] [vI (x1 * x0), vR z2, vR z3, vI x4] h Q := Rn_nx pg51 rfl rfl
theorem sX6_throwsOf_40 : Rn r 51 40 [l0, l1, l2, l3, some (vI x)] [vI x0, vR z1, vR z2, vI x3] h Q ↔ Rn r 51 42 [l0, l1, l2, l3, some (vI x)] [vI x, vI x0, vR z1, vR z2, vI x3] h Q := Rn_nx pg51 rfl rfl
theorem sX6_throwsOf_42 : Rn r 51 42 [l0, l1, l2, l3, l4] [vI x0, vI x1, vR z2, vR z3, vI x4] h Q ↔ Rn r 51 43 [l0, l1, l2, l3, l4] [vI (x1 + x0), vR z2, vR z3, vI x4] h Q := Rn_nx pg51 rfl rfl
theorem sX6_throwsOf_43 (hk : hK h a1 = 42) (hx : ¬ (x0 < 0 ∨ hL h a1 ≤ x0.toNatClampNeg)) : Rn r 51 43 [l0, l1, l2, l3, l4] [vI x0, vR (some a1), vR z2, vI x3] h Q ↔ Rn r 51 44 [l0, l1, l2, l3, l4] [vL (hJ h a1 x0.toNatClampNeg), vR z2, vI x3] h Q := Rn_nx pg51 rfl ((if_pos ⟨(hk ▸ Nat.le_refl _), (hk ▸ Nat.le_refl _)⟩).trans (if_neg hx))
theorem sX6_throwsOf_44 : Rn r 51 44 [some (vR z), l1, l2, l3, l4] [vL y0, vR z1, vI x2] h Q ↔ Rn r 51 45 [some (vR z), l1, l2, l3, l4] [vR z, vL y0, vR z1, vI x2] h Q := Rn_nx pg51 rfl rfl
theorem sX6_throwsOf_45 (hk : hK h a0 = 15) : Rn r 51 45 [l0, l1, l2, l3, l4] [vR (some a0), vL y1, vR z2, vI x3] h Q ↔ Rn r 51 48 [l0, l1, l2, l3, l4] [vR (hR h a0 17), vL y1, vR z2, vI x3] h Q := Rn_nx pg51 rfl (if_pos ⟨(hk ▸ Nat.le_refl _), (hk ▸ Nat.le_refl _)⟩)
theorem sX6_throwsOf_48 : Rn r 51 48 [l0, l1, l2, l3, l4] [vR z0, vL y1, vR z2, vI x3] h Q ↔ Rn r 51 49 [l0, l1, l2, l3, l4] [vI 4, vR z0, vL y1, vR z2, vI x3] h Q := Rn_nx pg51 rfl rfl
theorem sX6_throwsOf_49 : Rn r 51 49 [l0, l1, l2, some (vI x), l4] [vI x0, vR z1, vL y2, vR z3, vI x4] h Q ↔ Rn r 51 50 [l0, l1, l2, some (vI x), l4] [vI x, vI x0, vR z1, vL y2, vR z3, vI x4] h Q := Rn_nx pg51 rfl rfl
theorem sX6_throwsOf_50 : Rn r 51 50 [l0, l1, l2, l3, l4] [vI x0, vI x1, vR z2, vL y3, vR z4, vI x5] h Q ↔ Rn r 51 51 [l0, l1, l2, l3, l4] [vI (x1 * x0), vR z2, vL y3, vR z4, vI x5] h Q := Rn_nx pg51 rfl rfl
theorem sX6_throwsOf_51 : Rn r 51 51 [l0, l1, l2, l3, some (vI x)] [vI x0, vR z1, vL y2, vR z3, vI x4] h Q ↔ Rn r 51 53 [l0, l1, l2, l3, some (vI x)] [vI x, vI x0, vR z1, vL y2, vR z3, vI x4] h Q := Rn_nx pg51 rfl rfl
theorem sX6_throwsOf_53 : Rn r 51 53 [l0, l1, l2, l3, l4] [vI x0, vI x1, vR z2, vL y3, vR z4, vI x5] h Q ↔ Rn r 51 54 [l0, l1, l2, l3, l4] [vI (x1 + x0), vR z2, vL y3, vR z4, vI x5] h Q := Rn_nx pg51 rfl rfl
theorem sX6_throwsOf_54 (hk : 40 ≤ hK h a1) (hk2 : hK h a1 ≤ 41) (hx : ¬ (x0 < 0 ∨ hL h a1 ≤ x0.toNatClampNeg)) : Rn r 51 54 [l0, l1, l2, l3, l4] [vI x0, vR (some a1), vL y2, vR z3, vI x4] h Q ↔ Rn r 51 55 [l0, l1, l2, l3, l4] [vI (hI h a1 x0.toNatClampNeg), vL y2, vR z3, vI x4] h Q := Rn_nx pg51 rfl ((if_pos ⟨hk, hk2⟩).trans (if_neg hx))
theorem sX6_throwsOf_55 (hk : hK h a2 = 15) : Rn r 51 55 [l0, l1, l2, l3, l4] [vI x0, vL y1, vR (some a2), vI x3] h Q ↔ Cl r 69 [vR (some a2), vL y1, vI x0] h (Kt r 51 58 [l0, l1, l2, l3, l4] [vI x3] Q) := Rn_call pg51 rfl (by simp only [am_exec, am_inv, am_pop, am_lk, hk]; rfl) pg69 rfl rfl rfl
theorem sX6_throwsOf_58 : Rn r 51 58 [l0, l1, l2, l3, l4] [vI x0, vI x1] h Q ↔ Cl r 101 [vI x0] h (Kt r 51 61 [l0, l1, l2, l3, l4] [vI x1] Q) := Rn_call pg51 rfl rfl pg101 rfl rfl rfl
theorem sX6_throwsOf_61 : Rn r 51 61 [l0, l1, l2, l3, l4] [vI x0, vI x1] h Q ↔ Rn r 51 62 [l0, l1, l2, l3, l4] [vI (x1 ||| x0)] h Q := Rn_nx pg51 rfl rfl
theorem sX6_throwsOf_62 : Rn r 51 62 [l0, l1, l2, l3, l4] [vI x0] h Q ↔ Rn r 51 63 [l0, l1, some (vI x0), l3, l4] [] h Q := Rn_nx pg51 rfl rfl
theorem sX6_throwsOf_63 : Rn r 51 63 [l0, l1, l2, l3, some (vI x)] [] h Q ↔ Rn r 51 66 [l0, l1, l2, l3, some (vI (x + 1))] [] h Q := Rn_nx pg51 rfl rfl
theorem sX6_throwsOf_66 : Rn r 51 66 [l0, l1, l2, l3, l4] [] h Q ↔ Rn r 51 15 [l0, l1, l2, l3, l4] [] h Q := Rn_nx pg51 rfl rfl
theorem sX6_throwsOf_69 : Rn r 51 69 [l0, l1, some (vI x), l3, l4] [] h Q ↔ Rn r 51 70 [l0, l1, some (vI x), l3, l4] [vI x] h Q := Rn_nx pg51 rfl rfl
theorem sX6_throwsOf_70 : Rn r 51 70 [l0, l1, l2, l3, l4] [vI x0] h Q ↔ Q (Sum.inl (some (vI x0))) h := Rn_end pg51 rfl rfl
/-! 52 ThrowRulesModel.isLeft(I)Z -/
theorem eX6_isLeft : Cl r 52 [vR z0, vI x1] h Q ↔ Rn r 52 0 [some (vR z0), some (vI x1)] [] h Q := Cl_in pg52 rfl
theorem sX6_isLeft_0 : Rn r 52 0 [l0, some (vI x)] [] h Q ↔ Rn r 52 1 [l0, some (vI x)] [vI x] h Q := Rn_nx pg52 rfl rfl
theorem sX6_isLeft_1 : Rn r 52 1 [l0, l1] [vI x0] h Q ↔ Rn r 52 2 [l0, l1] [vI (-1), vI x0] h Q := Rn_nx pg52 rfl rfl
theorem sX6_isLeft_2 : Rn r 52 2 [l0, l1] [vI x0, vI x1] h Q ↔ if x1 = x0 then Rn r 52 33 [l0, l1] [] h Q else Rn r 52 5 [l0, l1] [] h Q := Rn_if pg52 rfl rfl rfl
theorem sX6_isLeft_5 : Rn r 52 5 [some (vR z), l1] [] h Q ↔ Rn r 52 6 [some (vR z), l1] [vR z] h Q := Rn_nx pg52 rfl rfl
theorem sX6_isLeft_6 (hk : hK h a0 = 15) : Rn r 52 6 [l0, l1] [vR (some a0)] h Q ↔ Rn r 52 9 [l0, l1] [vR (hR h a0 46)] h Q := Rn_nx pg52 rfl (if_pos ⟨(hk ▸ Nat.le_refl _), (hk ▸ Nat.le_refl _)⟩)
theorem sX6_isLeft_9 : Rn r 52 9 [l0, some (vI x)] [vR z0] h Q ↔ Rn r 52 10 [l0, some (vI x)] [vI x, vR z0] h Q := Rn_nx pg52 rfl rfl
theorem sX6_isLeft_10 (hk : 40 ≤ hK h a1) (hk2 : hK h a1 ≤ 41) (hx : ¬ (x0 < 0 ∨ hL h a1 ≤ x0.toNatClampNeg)) : Rn r 52 10 [l0, l1] [vI x0, vR (some a1)] h Q ↔ Rn r 52 11 [l0, l1] [vI (hI h a1 x0.toNatClampNeg)] h Q := Rn_nx pg52 rfl ((if_pos ⟨hk, hk2⟩).trans (if_neg hx))
theorem sX6_isLeft_11 : Rn r 52 11 [l0, l1] [vI x0] h Q ↔ Rn r 52 12 [l0, l1] [vI (-1), vI x0] h Q := Rn_nx pg52 rfl rfl
theorem sX6_isLeft_12 : Rn r 52 12 [l0, l1] [vI x0, vI x1] h Q ↔ if x1 = x0 then Rn r 52 29 [l0, l1] [] h Q else Rn r 52 15 [l0, l1] [] h Q := Rn_if pg52 rfl rfl rfl
theorem sX6_isLeft_15 : Rn r 52 15 [some (vR z), l1] [] h Q ↔ Rn r 52 16 [some (vR z), l1] [vR z] h Q := Rn_nx pg52 rfl rfl
theorem sX6_isLeft_16 (hk : hK h a0 = 15) : Rn r 52 16 [l0, l1] [vR (some a0)] h Q ↔ Rn r 52 19 [l0, l1] [vR (hR h a0 59)] h Q := Rn_nx pg52 rfl (if_pos ⟨(hk ▸ Nat.le_refl _), (hk ▸ Nat.le_refl _)⟩)
theorem sX6_isLeft_19 : Rn r 52 19 [some (vR z), l1] [vR z0] h Q ↔ Rn r 52 20 [some (vR z), l1] [vR z, vR z0] h Q := Rn_nx pg52 rfl rfl
theorem sX6_isLeft_20 (hk : hK h a0 = 15) : Rn r 52 20 [l0, l1] [vR (some a0), vR z1] h Q ↔ Rn r 52 23 [l0, l1] [vR (hR h a0 46), vR z1] h Q := Rn_nx pg52 rfl (if_pos ⟨(hk ▸ Nat.le_refl _), (hk ▸ Nat.le_refl _)⟩)
theorem sX6_isLeft_23 : Rn r 52 23 [l0, some (vI x)] [vR z0, vR z1] h Q ↔ Rn r 52 24 [l0, some (vI x)] [vI x, vR z0, vR z1] h Q := Rn_nx pg52 rfl rfl
theorem sX6_isLeft_24 (hk : 40 ≤ hK h a1) (hk2 : hK h a1 ≤ 41) (hx : ¬ (x0 < 0 ∨ hL h a1 ≤ x0.toNatClampNeg)) : Rn r 52 24 [l0, l1] [vI x0, vR (some a1), vR z2] h Q ↔ Rn r 52 25 [l0, l1] [vI (hI h a1 x0.toNatClampNeg), vR z2] h Q := Rn_nx pg52 rfl ((if_pos ⟨hk, hk2⟩).trans (if_neg hx))
theorem sX6_isLeft_25 (hk : 43 ≤ hK h a1) (hk2 : hK h a1 ≤ 45) (hx : ¬ (x0 < 0 ∨ hL h a1 ≤ x0.toNatClampNeg)) : Rn r 52 25 [l0, l1] [vI x0, vR (some a1)] h Q ↔ Rn r 52 26 [l0, l1] [vI (hI h a1 x0.toNatClampNeg)] h Q := Rn_nx pg52 rfl ((if_pos ⟨hk, hk2⟩).trans (if_neg hx))
theorem sX6_isLeft_26 : Rn r 52 26 [l0, l1] [vI x0] h Q ↔ if x0 = 0 then Rn r 52 33 [l0, l1] [] h Q else Rn r 52 29 [l0, l1] [] h Q := Rn_if pg52 rfl rfl rfl
theorem sX6_isLeft_29 : Rn r 52 29 [l0, l1] [] h Q ↔ Rn r 52 30 [l0, l1] [vI 1] h Q := Rn_nx pg52 rfl rfl
theorem sX6_isLeft_30 : Rn r 52 30 [l0, l1] [vI x0] h Q ↔ Rn r 52 34 [l0, l1] [vI x0] h Q := Rn_nx pg52 rfl rfl
theorem sX6_isLeft_33 : Rn r 52 33 [l0, l1] [] h Q ↔ Rn r 52 34 [l0, l1] [vI 0] h Q := Rn_nx pg52 rfl rfl
theorem sX6_isLeft_34 (hf : am_fit 4 x0 = true) : Rn r 52 34 [l0, l1] [vI x0] h Q ↔ Q (Sum.inl (some (vI x0))) h := Rn_end pg52 rfl (if_pos hf)
/-! 53 ThrowRulesModel.methodOf(J)I -/
theorem eX6_methodOf : Cl r 53 [vR z0, vL y1] h Q ↔ Rn r 53 0 [some (vR z0), some (vL y1), none, none] [] h Q := Cl_in pg53 rfl
theorem sX6_methodOf_0 : Rn r 53 0 [l0, l1, l2, l3] [] h Q ↔ Rn r 53 1 [l0, l1, l2, l3] [vI 0] h Q := Rn_nx pg53 rfl rfl
theorem sX6_methodOf_1 : Rn r 53 1 [l0, l1, l2, l3] [vI x0] h Q ↔ Rn r 53 2 [l0, l1, l2, some (vI x0)] [] h Q := Rn_nx pg53 rfl rfl
theorem sX6_methodOf_2 : Rn r 53 2 [l0, l1, l2, some (vI x)] [] h Q ↔ Rn r 53 3 [l0, l1, l2, some (vI x)] [vI x] h Q := Rn_nx pg53 rfl rfl
theorem sX6_methodOf_3 : Rn r 53 3 [some (vR z), l1, l2, l3] [vI x0] h Q ↔ Rn r 53 4 [some (vR z), l1, l2, l3] [vR z, vI x0] h Q := Rn_nx pg53 rfl rfl
theorem sX6_methodOf_4 (hk : hK h a0 = 15) : Rn r 53 4 [l0, l1, l2, l3] [vR (some a0), vI x1] h Q ↔ Rn r 53 7 [l0, l1, l2, l3] [vR (hR h a0 9), vI x1] h Q := Rn_nx pg53 rfl (if_pos ⟨(hk ▸ Nat.le_refl _), (hk ▸ Nat.le_refl _)⟩)
theorem sX6_methodOf_7 : Rn r 53 7 [some (vR z), l1, l2, l3] [vR z0, vI x1] h Q ↔ Rn r 53 8 [some (vR z), l1, l2, l3] [vR z, vR z0, vI x1] h Q := Rn_nx pg53 rfl rfl
theorem sX6_methodOf_8 (hk : hK h a0 = 15) : Rn r 53 8 [l0, l1, l2, l3] [vR (some a0), vR z1, vI x2] h Q ↔ Rn r 53 11 [l0, l1, l2, l3] [vI (hI h a0 2), vR z1, vI x2] h Q := Rn_nx pg53 rfl (if_pos ⟨(hk ▸ Nat.le_refl _), (hk ▸ Nat.le_refl _)⟩)
theorem sX6_methodOf_11 (hk : 40 ≤ hK h a1) (hk2 : hK h a1 ≤ 41) (hx : ¬ (x0 < 0 ∨ hL h a1 ≤ x0.toNatClampNeg)) : Rn r 53 11 [l0, l1, l2, l3] [vI x0, vR (some a1), vI x2] h Q ↔ Rn r 53 12 [l0, l1, l2, l3] [vI (hI h a1 x0.toNatClampNeg), vI x2] h Q := Rn_nx pg53 rfl ((if_pos ⟨hk, hk2⟩).trans (if_neg hx))
theorem sX6_methodOf_12 : Rn r 53 12 [l0, l1, l2, l3] [vI x0, vI x1] h Q ↔ if x0 ≤ x1 then Rn r 53 42 [l0, l1, l2, l3] [] h Q else Rn r 53 15 [l0, l1, l2, l3] [] h Q := Rn_if pg53 rfl rfl rfl
theorem sX6_methodOf_15 : Rn r 53 15 [some (vR z), l1, l2, l3] [] h Q ↔ Rn r 53 16 [some (vR z), l1, l2, l3] [vR z] h Q := Rn_nx pg53 rfl rfl
theorem sX6_methodOf_16 (hk : hK h a0 = 15) : Rn r 53 16 [l0, l1, l2, l3] [vR (some a0)] h Q ↔ Rn r 53 19 [l0, l1, l2, l3] [vR (hR h a0 10)] h Q := Rn_nx pg53 rfl (if_pos ⟨(hk ▸ Nat.le_refl _), (hk ▸ Nat.le_refl _)⟩)
theorem sX6_methodOf_19 : Rn r 53 19 [some (vR z), l1, l2, l3] [vR z0] h Q ↔ Rn r 53 20 [some (vR z), l1, l2, l3] [vR z, vR z0] h Q := Rn_nx pg53 rfl rfl
theorem sX6_methodOf_20 (hk : hK h a0 = 15) : Rn r 53 20 [l0, l1, l2, l3] [vR (some a0), vR z1] h Q ↔ Rn r 53 23 [l0, l1, l2, l3] [vI (hI h a0 2), vR z1] h Q := Rn_nx pg53 rfl (if_pos ⟨(hk ▸ Nat.le_refl _), (hk ▸ Nat.le_refl _)⟩)
theorem sX6_methodOf_23 : Rn r 53 23 [l0, l1, l2, l3] [vI x0, vR z1] h Q ↔ Rn r 53 25 [l0, l1, l2, l3] [vI 12, vI x0, vR z1] h Q := Rn_nx pg53 rfl rfl
theorem sX6_methodOf_25 : Rn r 53 25 [l0, l1, l2, l3] [vI x0, vI x1, vR z2] h Q ↔ Rn r 53 26 [l0, l1, l2, l3] [vI (x1 * x0), vR z2] h Q := Rn_nx pg53 rfl rfl
theorem sX6_methodOf_26 : Rn r 53 26 [l0, l1, l2, some (vI x)] [vI x0, vR z1] h Q ↔ Rn r 53 27 [l0, l1, l2, some (vI x)] [vI x, vI x0, vR z1] h Q := Rn_nx pg53 rfl rfl
theorem sX6_methodOf_27 : Rn r 53 27 [l0, l1, l2, l3] [vI x0, vI x1, vR z2] h Q ↔ Rn r 53 28 [l0, l1, l2, l3] [vI (x1 + x0), vR z2] h Q := Rn_nx pg53 rfl rfl
theorem sX6_methodOf_28 (hk : hK h a1 = 42) (hx : ¬ (x0 < 0 ∨ hL h a1 ≤ x0.toNatClampNeg)) : Rn r 53 28 [l0, l1, l2, l3] [vI x0, vR (some a1)] h Q ↔ Rn r 53 29 [l0, l1, l2, l3] [vL (hJ h a1 x0.toNatClampNeg)] h Q := Rn_nx pg53 rfl ((if_pos ⟨(hk ▸ Nat.le_refl _), (hk ▸ Nat.le_refl _)⟩).trans (if_neg hx))
theorem sX6_methodOf_29 : Rn r 53 29 [l0, some (vL y), l2, l3] [vL y0] h Q ↔ Rn r 53 30 [l0, some (vL y), l2, l3] [vL y, vL y0] h Q := Rn_nx pg53 rfl rfl
theorem sX6_methodOf_30 : Rn r 53 30 [l0, l1, l2, l3] [vL y0, vL y1] h Q ↔ Rn r 53 31 [l0, l1, l2, l3] [vI (lg_cmp y1 y0)] h Q := Rn_nx pg53 rfl rfl
theorem sX6_methodOf_31 : Rn r 53 31 [l0, l1, l2, l3] [vI x0] h Q ↔ if x0 ≠ 0 then Rn r 53 36 [l0, l1, l2, l3] [] h Q else Rn r 53 34 [l0, l1, l2, l3] [] h Q := Rn_if pg53 rfl rfl rfl
theorem sX6_methodOf_34 : Rn r 53 34 [l0, l1, l2, some (vI x)] [] h Q ↔ Rn r 53 35 [l0, l1, l2, some (vI x)] [vI x] h Q := Rn_nx pg53 rfl rfl
theorem sX6_methodOf_35 : Rn r 53 35 [l0, l1, l2, l3] [vI x0] h Q ↔ Q (Sum.inl (some (vI x0))) h := Rn_end pg53 rfl rfl
theorem sX6_methodOf_36 : Rn r 53 36 [l0, l1, l2, some (vI x)] [] h Q ↔ Rn r 53 39 [l0, l1, l2, some (vI (x + 1))] [] h Q := Rn_nx pg53 rfl rfl
theorem sX6_methodOf_39 : Rn r 53 39 [l0, l1, l2, l3] [] h Q ↔ Rn r 53 2 [l0, l1, l2, l3] [] h Q := Rn_nx pg53 rfl rfl
theorem sX6_methodOf_42 : Rn r 53 42 [l0, l1, l2, l3] [] h Q ↔ Rn r 53 43 [l0, l1, l2, l3] [vI (-1)] h Q := Rn_nx pg53 rfl rfl
theorem sX6_methodOf_43 : Rn r 53 43 [l0, l1, l2, l3] [vI x0] h Q ↔ Q (Sum.inl (some (vI x0))) h := Rn_end pg53 rfl rfl
/-! 54 ThrowRules$Plain.sort()I -/
theorem eX14_sort : Cl r 54 [vR z0] h Q ↔ Rn r 54 0 [some (vR z0)] [] h Q := Cl_in pg54 rfl
theorem sX14_sort_0 : Rn r 54 0 [some (vR z)] [] h Q ↔ Rn r 54 1 [some (vR z)] [vR z] h Q := Rn_nx pg54 rfl rfl
theorem sX14_sort_1 (hk : hK h a0 = 30) : Rn r 54 1 [l0] [vR (some a0)] h Q ↔ Rn r 54 4 [l0] [vI (hI h a0 5)] h Q := Rn_nx pg54 rfl (if_pos ⟨(hk ▸ Nat.le_refl _), (hk ▸ Nat.le_refl _)⟩)
theorem sX14_sort_4 : Rn r 54 4 [l0] [vI x0] h Q ↔ Q (Sum.inl (some (vI x0))) h := Rn_end pg54 rfl rfl
/-! 55 ThrowRules$Call.sort()I -/
theorem eX15_sort : Cl r 55 [vR z0] h Q ↔ Rn r 55 0 [some (vR z0)] [] h Q := Cl_in pg55 rfl
theorem sX15_sort_0 : Rn r 55 0 [l0] [] h Q ↔ Rn r 55 1 [l0] [vI 1] h Q := Rn_nx pg55 rfl rfl
theorem sX15_sort_1 : Rn r 55 1 [l0] [vI x0] h Q ↔ Q (Sum.inl (some (vI x0))) h := Rn_end pg55 rfl rfl
/-! 56 ThrowRules$Throw.sort()I -/
theorem eX16_sort : Cl r 56 [vR z0] h Q ↔ Rn r 56 0 [some (vR z0)] [] h Q := Cl_in pg56 rfl
theorem sX16_sort_0 : Rn r 56 0 [l0] [] h Q ↔ Rn r 56 1 [l0] [vI 2] h Q := Rn_nx pg56 rfl rfl
theorem sX16_sort_1 : Rn r 56 1 [l0] [vI x0] h Q ↔ Q (Sum.inl (some (vI x0))) h := Rn_end pg56 rfl rfl
/-! 57 ThrowRules$If.sort()I -/
theorem eX17_sort : Cl r 57 [vR z0] h Q ↔ Rn r 57 0 [some (vR z0)] [] h Q := Cl_in pg57 rfl
theorem sX17_sort_0 : Rn r 57 0 [l0] [] h Q ↔ Rn r 57 1 [l0] [vI 4] h Q := Rn_nx pg57 rfl rfl
theorem sX17_sort_1 : Rn r 57 1 [l0] [vI x0] h Q ↔ Q (Sum.inl (some (vI x0))) h := Rn_end pg57 rfl rfl
/-! 58 ThrowRules$Loop.sort()I -/
theorem eX18_sort : Cl r 58 [vR z0] h Q ↔ Rn r 58 0 [some (vR z0)] [] h Q := Cl_in pg58 rfl
theorem sX18_sort_0 : Rn r 58 0 [some (vR z)] [] h Q ↔ Rn r 58 1 [some (vR z)] [vR z] h Q := Rn_nx pg58 rfl rfl
theorem sX18_sort_1 (hk : hK h a0 = 34) : Rn r 58 1 [l0] [vR (some a0)] h Q ↔ Rn r 58 4 [l0] [vI (hI h a0 5)] h Q := Rn_nx pg58 rfl (if_pos ⟨(hk ▸ Nat.le_refl _), (hk ▸ Nat.le_refl _)⟩)
theorem sX18_sort_4 : Rn r 58 4 [l0] [vI x0] h Q ↔ if x0 = 0 then Rn r 58 11 [l0] [] h Q else Rn r 58 7 [l0] [] h Q := Rn_if pg58 rfl rfl rfl
theorem sX18_sort_7 : Rn r 58 7 [l0] [] h Q ↔ Rn r 58 8 [l0] [vI 5] h Q := Rn_nx pg58 rfl rfl
theorem sX18_sort_8 : Rn r 58 8 [l0] [vI x0] h Q ↔ Rn r 58 13 [l0] [vI x0] h Q := Rn_nx pg58 rfl rfl
theorem sX18_sort_11 : Rn r 58 11 [l0] [] h Q ↔ Rn r 58 13 [l0] [vI 6] h Q := Rn_nx pg58 rfl rfl
theorem sX18_sort_13 : Rn r 58 13 [l0] [vI x0] h Q ↔ Q (Sum.inl (some (vI x0))) h := Rn_end pg58 rfl rfl
/-! 59 ThrowRules$Break.sort()I -/
theorem eX19_sort : Cl r 59 [vR z0] h Q ↔ Rn r 59 0 [some (vR z0)] [] h Q := Cl_in pg59 rfl
theorem sX19_sort_0 : Rn r 59 0 [l0] [] h Q ↔ Rn r 59 2 [l0] [vI 7] h Q := Rn_nx pg59 rfl rfl
theorem sX19_sort_2 : Rn r 59 2 [l0] [vI x0] h Q ↔ Q (Sum.inl (some (vI x0))) h := Rn_end pg59 rfl rfl
/-! 60 ThrowRules$Try.sort()I -/
theorem eX20_sort : Cl r 60 [vR z0] h Q ↔ Rn r 60 0 [some (vR z0)] [] h Q := Cl_in pg60 rfl
theorem sX20_sort_0 : Rn r 60 0 [l0] [] h Q ↔ Rn r 60 2 [l0] [vI 9] h Q := Rn_nx pg60 rfl rfl
theorem sX20_sort_2 : Rn r 60 2 [l0] [vI x0] h Q ↔ Q (Sum.inl (some (vI x0))) h := Rn_end pg60 rfl rfl
/-! 61 ThrowRules$Run.sort()I -/
theorem eX21_sort : Cl r 61 [vR z0] h Q ↔ Rn r 61 0 [some (vR z0)] [] h Q := Cl_in pg61 rfl
theorem sX21_sort_0 : Rn r 61 0 [l0] [] h Q ↔ Rn r 61 2 [l0] [vI 10] h Q := Rn_nx pg61 rfl rfl
theorem sX21_sort_2 : Rn r 61 2 [l0] [vI x0] h Q ↔ Q (Sum.inl (some (vI x0))) h := Rn_end pg61 rfl rfl
/-! 62 ThrowRules$Group.sort()I -/
theorem eX13_sort : Cl r 62 [vR z0] h Q ↔ Rn r 62 0 [some (vR z0)] [] h Q := Cl_in pg62 rfl
theorem sX13_sort_0 : Rn r 62 0 [l0] [] h Q ↔ Rn r 62 2 [l0] [vI 11] h Q := Rn_nx pg62 rfl rfl
theorem sX13_sort_2 : Rn r 62 2 [l0] [vI x0] h Q ↔ Q (Sum.inl (some (vI x0))) h := Rn_end pg62 rfl rfl
/-! 63 java/lang/StringBuilder.<init>(I)V -/
theorem eJ23_init : Cl r 63 [vR z0, vI x1] h Q ↔ Rn r 63 0 [some (vR z0), some (vI x1)] [] h Q := Cl_in pg63 rfl
theorem sJ23_init_0 : Rn r 63 0 [some (vR z), l1] [] h Q ↔ Rn r 63 1 [some (vR z), l1] [vR z] h Q := Rn_nx pg63 rfl rfl
theorem sJ23_init_1 : Rn r 63 1 [l0, some (vI x)] [vR z0] h Q ↔ Rn r 63 2 [l0, some (vI x)] [vI x, vR z0] h Q := Rn_nx pg63 rfl rfl
theorem sJ23_init_2 (hk : 0 < hK h a1) (hk2 : hK h a1 < 40) : Rn r 63 2 [l0, l1] [vI x0, vR (some a1)] h Q ↔ Cl r 102 [vR (some a1), vI x0] h (Kt r 63 5 [l0, l1] [] Q) := Rn_call pg63 rfl (if_pos ⟨hk, hk2⟩) pg102 rfl rfl rfl
theorem sJ23_init_5 : Rn r 63 5 [l0, l1] [] h Q ↔ Q (Sum.inl none) h := Rn_end pg63 rfl rfl
/-! 64 java/lang/StringBuilder.append(C)Ljava/lang/StringBuilder; -/
theorem eJ23_append : Cl r 64 [vR z0, vI x1] h Q ↔ Rn r 64 0 [some (vR z0), some (vI x1)] [] h Q := Cl_in pg64 rfl
theorem sJ23_append_0 : Rn r 64 0 [some (vR z), l1] [] h Q ↔ Rn r 64 1 [some (vR z), l1] [vR z] h Q := Rn_nx pg64 rfl rfl
theorem sJ23_append_1 : Rn r 64 1 [l0, some (vI x)] [vR z0] h Q ↔ Rn r 64 2 [l0, some (vI x)] [vI x, vR z0] h Q := Rn_nx pg64 rfl rfl
theorem sJ23_append_2 (hk : 0 < hK h a1) (hk2 : hK h a1 < 40) : Rn r 64 2 [l0, l1] [vI x0, vR (some a1)] h Q ↔ Cl r 103 [vR (some a1), vI x0] h (Kt r 64 5 [l0, l1] [] Q) := Rn_call pg64 rfl (if_pos ⟨hk, hk2⟩) pg103 rfl rfl rfl
theorem sJ23_append_5 : Rn r 64 5 [l0, l1] [vR z0] h Q ↔ Rn r 64 6 [l0, l1] [] h Q := Rn_nx pg64 rfl rfl
theorem sJ23_append_6 : Rn r 64 6 [some (vR z), l1] [] h Q ↔ Rn r 64 7 [some (vR z), l1] [vR z] h Q := Rn_nx pg64 rfl rfl
theorem sJ23_append_7 : Rn r 64 7 [l0, l1] [vR z0] h Q ↔ Q (Sum.inl (some (vR z0))) h := Rn_end pg64 rfl rfl
end ST1
