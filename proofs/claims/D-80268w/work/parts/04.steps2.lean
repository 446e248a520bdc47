/-! STEP LEMMAS, printed by gen_steps.py -/
set_option maxRecDepth 100000
section ST2
variable {r : Nat} {h : am_H} {Q : am_O → am_H → Prop} {x x0 x1 x2 x3 x4 x5 x6 x7 x8 x9 x10 x11 : Int32} {y y0 y1 y2 y3 y4 y5 y6 y7 y8 y9 y10 y11 : Int64} {z z0 z1 z2 z3 z4 z5 z6 z7 z8 z9 z10 z11 : Option Nat} {w0 w1 w2 : UInt32} {a0 a1 a2 a3 a4 a5 a6 a7 a8 a9 a10 a11 : Nat} {l0 l1 l2 l3 l4 l5 l6 l7 l8 l9 l10 l11 l12 l13 l14 l15 l16 l17 l18 l19 : Option am_V}
/-! 65 java/lang/StringBuilder.toString()Ljava/lang/String; -/
theorem eJ23_toString : Cl r 65 [vR z0] h Q ↔ Rn r 65 0 [some (vR z0)] [] h Q := Cl_in pg65 rfl
theorem sJ23_toString_0 : Rn r 65 0 [l0] [] h Q ↔ Rn r 65 3 [l0] [vR (some (hN h))] (newC h 10 4) Q := Rn_nx pg65 rfl rfl
theorem sJ23_toString_3 : Rn r 65 3 [l0] [vR z0] h Q ↔ Rn r 65 4 [l0] [vR z0, vR z0] h Q := Rn_nx pg65 rfl rfl
theorem sJ23_toString_4 : Rn r 65 4 [some (vR z)] [vR z0, vR z1] h Q ↔ Rn r 65 5 [some (vR z)] [vR z, vR z0, vR z1] h Q := Rn_nx pg65 rfl rfl
theorem sJ23_toString_5 (hk : 0 < hK h a1) (hk2 : hK h a1 < 40) : Rn r 65 5 [l0] [vR z0, vR (some a1), vR z2] h Q ↔ Cl r 104 [vR (some a1), vR z0] h (Kt r 65 8 [l0] [vR z2] Q) := Rn_call pg65 rfl (if_pos ⟨hk, hk2⟩) pg104 rfl rfl rfl
theorem sJ23_toString_8 : Rn r 65 8 [l0] [vR z0] h Q ↔ Q (Sum.inl (some (vR z0))) h := Rn_end pg65 rfl rfl
/-! 66 java/util/HashMap.get(Ljava/lang/Object;)Ljava/lang/Object; -/
theorem eJ7_get : Cl r 66 [vR z0, vR z1] h Q ↔ Rn r 66 0 [some (vR z0), some (vR z1), none] [] h Q := Cl_in pg66 rfl
theorem sJ7_get_0 : Rn r 66 0 [some (vR z), l1, l2] [] h Q ↔ Rn r 66 1 [some (vR z), l1, l2] [vR z] h Q := Rn_nx pg66 rfl rfl
theorem sJ7_get_1 : Rn r 66 1 [l0, some (vR z), l2] [vR z0] h Q ↔ Rn r 66 2 [l0, some (vR z), l2] [vR z, vR z0] h Q := Rn_nx pg66 rfl rfl
theorem sJ7_get_2 (hk : hK h a1 = 6) : Rn r 66 2 [l0, l1, l2] [vR z0, vR (some a1)] h Q ↔ Cl r 105 [vR (some a1), vR z0] h (Kt r 66 5 [l0, l1, l2] [] Q) := Rn_call pg66 rfl (by simp only [am_exec, am_inv, am_pop, am_lk, hk]; rfl) pg105 rfl rfl rfl
theorem sJ7_get_5 : Rn r 66 5 [l0, l1, l2] [vR z0] h Q ↔ Rn r 66 6 [l0, l1, l2] [vR z0, vR z0] h Q := Rn_nx pg66 rfl rfl
theorem sJ7_get_6 : Rn r 66 6 [l0, l1, l2] [vR z0, vR z1] h Q ↔ Rn r 66 7 [l0, l1, some (vR z0)] [vR z1] h Q := Rn_nx pg66 rfl rfl
theorem sJ7_get_7 : Rn r 66 7 [l0, l1, l2] [vR z0] h Q ↔ if z0 ≠ none then Rn r 66 14 [l0, l1, l2] [] h Q else Rn r 66 10 [l0, l1, l2] [] h Q := Rn_if pg66 rfl rfl rfl
theorem sJ7_get_10 : Rn r 66 10 [l0, l1, l2] [] h Q ↔ Rn r 66 11 [l0, l1, l2] [vR none] h Q := Rn_nx pg66 rfl rfl
theorem sJ7_get_11 : Rn r 66 11 [l0, l1, l2] [vR z0] h Q ↔ Rn r 66 18 [l0, l1, l2] [vR z0] h Q := Rn_nx pg66 rfl rfl
theorem sJ7_get_14 : Rn r 66 14 [l0, l1, some (vR z)] [] h Q ↔ Rn r 66 15 [l0, l1, some (vR z)] [vR z] h Q := Rn_nx pg66 rfl rfl
theorem sJ7_get_15 (hk : 12 ≤ hK h a0) (hk2 : hK h a0 ≤ 13) : Rn r 66 15 [l0, l1, l2] [vR (some a0)] h Q ↔ Rn r 66 18 [l0, l1, l2] [vR (hR h a0 2)] h Q := Rn_nx pg66 rfl (if_pos ⟨hk, hk2⟩)
theorem sJ7_get_18 : Rn r 66 18 [l0, l1, l2] [vR z0] h Q ↔ Q (Sum.inl (some (vR z0))) h := Rn_end pg66 rfl rfl
/-! 67 ThrowRulesModel.isLetter(I)Z -/
theorem eX6_isLetter : Cl r 67 [vI x0] h Q ↔ Rn r 67 0 [some (vI x0)] [] h Q := Cl_in pg67 rfl
theorem sX6_isLetter_0 : Rn r 67 0 [some (vI x)] [] h Q ↔ Rn r 67 1 [some (vI x)] [vI x] h Q := Rn_nx pg67 rfl rfl
theorem sX6_isLetter_1 : Rn r 67 1 [l0] [vI x0] h Q ↔ Rn r 67 3 [l0] [vI 97, vI x0] h Q := Rn_nx pg67 rfl rfl
theorem sX6_isLetter_3 : Rn r 67 3 [l0] [vI x0, vI x1] h Q ↔ if x1 < x0 then Rn r 67 16 [l0] [] h Q else Rn r 67 6 [l0] [] h Q := Rn_if pg67 rfl rfl rfl
theorem sX6_isLetter_6 : Rn r 67 6 [some (vI x)] [] h Q ↔ Rn r 67 7 [some (vI x)] [vI x] h Q := Rn_nx pg67 rfl rfl
theorem sX6_isLetter_7 : Rn r 67 7 [l0] [vI x0] h Q ↔ Rn r 67 9 [l0] [vI 122, vI x0] h Q := Rn_nx pg67 rfl rfl
theorem sX6_isLetter_9 : Rn r 67 9 [l0] [vI x0, vI x1] h Q ↔ if x0 < x1 then Rn r 67 16 [l0] [] h Q else Rn r 67 12 [l0] [] h Q := Rn_if pg67 rfl rfl rfl
theorem sX6_isLetter_12 : Rn r 67 12 [l0] [] h Q ↔ Rn r 67 13 [l0] [vI 1] h Q := Rn_nx pg67 rfl rfl
theorem sX6_isLetter_13 : Rn r 67 13 [l0] [vI x0] h Q ↔ Rn r 67 17 [l0] [vI x0] h Q := Rn_nx pg67 rfl rfl
theorem sX6_isLetter_16 : Rn r 67 16 [l0] [] h Q ↔ Rn r 67 17 [l0] [vI 0] h Q := Rn_nx pg67 rfl rfl
theorem sX6_isLetter_17 (hf : am_fit 4 x0 = true) : Rn r 67 17 [l0] [vI x0] h Q ↔ Q (Sum.inl (some (vI x0))) h := Rn_end pg67 rfl (if_pos hf)
/-! 68 ThrowRulesModel.isKeyword(J)Z -/
theorem eX6_isKeyword : Cl r 68 [vL y0] h Q ↔ Rn r 68 0 [some (vL y0), none] [] h Q := Cl_in pg68 rfl
theorem sX6_isKeyword_0 : Rn r 68 0 [some (vL y), l1] [] h Q ↔ Rn r 68 1 [some (vL y), l1] [vL y] h Q := Rn_nx pg68 rfl rfl
theorem sX6_isKeyword_1 : Rn r 68 1 [l0, l1] [vL y0] h Q ↔ Rn r 68 4 [l0, l1] [vL 1802071652, vL y0] h Q := Rn_nx pg68 rfl rfl
theorem sX6_isKeyword_4 : Rn r 68 4 [l0, l1] [vL y0, vL y1] h Q ↔ Rn r 68 5 [l0, l1] [vI (lg_cmp y1 y0)] h Q := Rn_nx pg68 rfl rfl
theorem sX6_isKeyword_5 : Rn r 68 5 [l0, l1] [vI x0] h Q ↔ if x0 = 0 then Rn r 68 160 [l0, l1] [] h Q else Rn r 68 8 [l0, l1] [] h Q := Rn_if pg68 rfl rfl rfl
theorem sX6_isKeyword_8 : Rn r 68 8 [some (vL y), l1] [] h Q ↔ Rn r 68 9 [some (vL y), l1] [vL y] h Q := Rn_nx pg68 rfl rfl
theorem sX6_isKeyword_9 : Rn r 68 9 [l0, l1] [vL y0] h Q ↔ Rn r 68 12 [l0, l1] [vL 422608400247, vL y0] h Q := Rn_nx pg68 rfl rfl
theorem sX6_isKeyword_12 : Rn r 68 12 [l0, l1] [vL y0, vL y1] h Q ↔ Rn r 68 13 [l0, l1] [vI (lg_cmp y1 y0)] h Q := Rn_nx pg68 rfl rfl
theorem sX6_isKeyword_13 : Rn r 68 13 [l0, l1] [vI x0] h Q ↔ if x0 = 0 then Rn r 68 160 [l0, l1] [] h Q else Rn r 68 16 [l0, l1] [] h Q := Rn_if pg68 rfl rfl rfl
theorem sX6_isKeyword_16 : Rn r 68 16 [some (vL y), l1] [] h Q ↔ Rn r 68 17 [some (vL y), l1] [vL y] h Q := Rn_nx pg68 rfl rfl
theorem sX6_isKeyword_17 : Rn r 68 17 [l0, l1] [vL y0] h Q ↔ Rn r 68 20 [l0, l1] [vL 7823737, vL y0] h Q := Rn_nx pg68 rfl rfl
theorem sX6_isKeyword_20 : Rn r 68 20 [l0, l1] [vL y0, vL y1] h Q ↔ Rn r 68 21 [l0, l1] [vI (lg_cmp y1 y0)] h Q := Rn_nx pg68 rfl rfl
theorem sX6_isKeyword_21 : Rn r 68 21 [l0, l1] [vI x0] h Q ↔ if x0 = 0 then Rn r 68 160 [l0, l1] [] h Q else Rn r 68 24 [l0, l1] [] h Q := Rn_if pg68 rfl rfl rfl
theorem sX6_isKeyword_24 : Rn r 68 24 [some (vL y), l1] [] h Q ↔ Rn r 68 25 [some (vL y), l1] [vL y] h Q := Rn_nx pg68 rfl rfl
theorem sX6_isKeyword_25 : Rn r 68 25 [l0, l1] [vL y0] h Q ↔ Rn r 68 28 [l0, l1] [vL 1870030194, vL y0] h Q := Rn_nx pg68 rfl rfl
theorem sX6_isKeyword_28 : Rn r 68 28 [l0, l1] [vL y0, vL y1] h Q ↔ Rn r 68 29 [l0, l1] [vI (lg_cmp y1 y0)] h Q := Rn_nx pg68 rfl rfl
theorem sX6_isKeyword_29 : Rn r 68 29 [l0, l1] [vI x0] h Q ↔ if x0 = 0 then Rn r 68 160 [l0, l1] [] h Q else Rn r 68 32 [l0, l1] [] h Q := Rn_if pg68 rfl rfl rfl
theorem sX6_isKeyword_32 : Rn r 68 32 [some (vL y), l1] [] h Q ↔ Rn r 68 33 [some (vL y), l1] [vL y] h Q := Rn_nx pg68 rfl rfl
theorem sX6_isKeyword_33 : Rn r 68 33 [l0, l1] [vL y0] h Q ↔ Rn r 68 36 [l0, l1] [vL 1718773093, vL y0] h Q := Rn_nx pg68 rfl rfl
theorem sX6_isKeyword_36 : Rn r 68 36 [l0, l1] [vL y0, vL y1] h Q ↔ Rn r 68 37 [l0, l1] [vI (lg_cmp y1 y0)] h Q := Rn_nx pg68 rfl rfl
theorem sX6_isKeyword_37 : Rn r 68 37 [l0, l1] [vI x0] h Q ↔ if x0 = 0 then Rn r 68 160 [l0, l1] [] h Q else Rn r 68 40 [l0, l1] [] h Q := Rn_if pg68 rfl rfl rfl
theorem sX6_isKeyword_40 : Rn r 68 40 [some (vL y), l1] [] h Q ↔ Rn r 68 41 [some (vL y), l1] [vL y] h Q := Rn_nx pg68 rfl rfl
theorem sX6_isKeyword_41 : Rn r 68 41 [l0, l1] [vL y0] h Q ↔ Rn r 68 44 [l0, l1] [vL 127991945328499, vL y0] h Q := Rn_nx pg68 rfl rfl
theorem sX6_isKeyword_44 : Rn r 68 44 [l0, l1] [vL y0, vL y1] h Q ↔ Rn r 68 45 [l0, l1] [vI (lg_cmp y1 y0)] h Q := Rn_nx pg68 rfl rfl
theorem sX6_isKeyword_45 : Rn r 68 45 [l0, l1] [vI x0] h Q ↔ if x0 = 0 then Rn r 68 160 [l0, l1] [] h Q else Rn r 68 48 [l0, l1] [] h Q := Rn_if pg68 rfl rfl rfl
theorem sX6_isKeyword_48 : Rn r 68 48 [some (vL y), l1] [] h Q ↔ Rn r 68 49 [some (vL y), l1] [vL y] h Q := Rn_nx pg68 rfl rfl
theorem sX6_isKeyword_49 : Rn r 68 49 [l0, l1] [vL y0] h Q ↔ Rn r 68 52 [l0, l1] [vL 25711, vL y0] h Q := Rn_nx pg68 rfl rfl
theorem sX6_isKeyword_52 : Rn r 68 52 [l0, l1] [vL y0, vL y1] h Q ↔ Rn r 68 53 [l0, l1] [vI (lg_cmp y1 y0)] h Q := Rn_nx pg68 rfl rfl
theorem sX6_isKeyword_53 : Rn r 68 53 [l0, l1] [vI x0] h Q ↔ if x0 = 0 then Rn r 68 160 [l0, l1] [] h Q else Rn r 68 56 [l0, l1] [] h Q := Rn_if pg68 rfl rfl rfl
theorem sX6_isKeyword_56 : Rn r 68 56 [some (vL y), l1] [] h Q ↔ Rn r 68 57 [some (vL y), l1] [vL y] h Q := Rn_nx pg68 rfl rfl
theorem sX6_isKeyword_57 : Rn r 68 57 [l0, l1] [vL y0] h Q ↔ Rn r 68 60 [l0, l1] [vL 1667329132, vL y0] h Q := Rn_nx pg68 rfl rfl
theorem sX6_isKeyword_60 : Rn r 68 60 [l0, l1] [vL y0, vL y1] h Q ↔ Rn r 68 61 [l0, l1] [vI (lg_cmp y1 y0)] h Q := Rn_nx pg68 rfl rfl
theorem sX6_isKeyword_61 : Rn r 68 61 [l0, l1] [vI x0] h Q ↔ if x0 = 0 then Rn r 68 160 [l0, l1] [] h Q else Rn r 68 64 [l0, l1] [] h Q := Rn_if pg68 rfl rfl rfl
theorem sX6_isKeyword_64 : Rn r 68 64 [some (vL y), l1] [] h Q ↔ Rn r 68 65 [some (vL y), l1] [vL y] h Q := Rn_nx pg68 rfl rfl
theorem sX6_isKeyword_65 : Rn r 68 65 [l0, l1] [vL y0] h Q ↔ Rn r 68 68 [l0, l1] [vL 499968536439, vL y0] h Q := Rn_nx pg68 rfl rfl
theorem sX6_isKeyword_68 : Rn r 68 68 [l0, l1] [vL y0, vL y1] h Q ↔ Rn r 68 69 [l0, l1] [vI (lg_cmp y1 y0)] h Q := Rn_nx pg68 rfl rfl
theorem sX6_isKeyword_69 : Rn r 68 69 [l0, l1] [vI x0] h Q ↔ if x0 = 0 then Rn r 68 160 [l0, l1] [] h Q else Rn r 68 72 [l0, l1] [] h Q := Rn_if pg68 rfl rfl rfl
theorem sX6_isKeyword_72 : Rn r 68 72 [some (vL y), l1] [] h Q ↔ Rn r 68 73 [some (vL y), l1] [vL y] h Q := Rn_nx pg68 rfl rfl
theorem sX6_isKeyword_73 : Rn r 68 73 [l0, l1] [vL y0] h Q ↔ Rn r 68 76 [l0, l1] [vL 7562612, vL y0] h Q := Rn_nx pg68 rfl rfl
theorem sX6_isKeyword_76 : Rn r 68 76 [l0, l1] [vL y0, vL y1] h Q ↔ Rn r 68 77 [l0, l1] [vI (lg_cmp y1 y0)] h Q := Rn_nx pg68 rfl rfl
theorem sX6_isKeyword_77 : Rn r 68 77 [l0, l1] [vI x0] h Q ↔ if x0 = 0 then Rn r 68 160 [l0, l1] [] h Q else Rn r 68 80 [l0, l1] [] h Q := Rn_if pg68 rfl rfl rfl
theorem sX6_isKeyword_80 : Rn r 68 80 [some (vL y), l1] [] h Q ↔ Rn r 68 81 [some (vL y), l1] [vL y] h Q := Rn_nx pg68 rfl rfl
theorem sX6_isKeyword_81 : Rn r 68 81 [l0, l1] [vL y0] h Q ↔ Rn r 68 84 [l0, l1] [vL 26982, vL y0] h Q := Rn_nx pg68 rfl rfl
theorem sX6_isKeyword_84 : Rn r 68 84 [l0, l1] [vL y0, vL y1] h Q ↔ Rn r 68 85 [l0, l1] [vI (lg_cmp y1 y0)] h Q := Rn_nx pg68 rfl rfl
theorem sX6_isKeyword_85 : Rn r 68 85 [l0, l1] [vI x0] h Q ↔ if x0 = 0 then Rn r 68 160 [l0, l1] [] h Q else Rn r 68 88 [l0, l1] [] h Q := Rn_if pg68 rfl rfl rfl
theorem sX6_isKeyword_88 : Rn r 68 88 [some (vL y), l1] [] h Q ↔ Rn r 68 89 [some (vL y), l1] [vL y] h Q := Rn_nx pg68 rfl rfl
theorem sX6_isKeyword_89 : Rn r 68 89 [l0, l1] [vL y0] h Q ↔ Rn r 68 92 [l0, l1] [vL 1701606245, vL y0] h Q := Rn_nx pg68 rfl rfl
theorem sX6_isKeyword_92 : Rn r 68 92 [l0, l1] [vL y0, vL y1] h Q ↔ Rn r 68 93 [l0, l1] [vI (lg_cmp y1 y0)] h Q := Rn_nx pg68 rfl rfl
theorem sX6_isKeyword_93 : Rn r 68 93 [l0, l1] [vI x0] h Q ↔ if x0 = 0 then Rn r 68 160 [l0, l1] [] h Q else Rn r 68 96 [l0, l1] [] h Q := Rn_if pg68 rfl rfl rfl
theorem sX6_isKeyword_96 : Rn r 68 96 [some (vL y), l1] [] h Q ↔ Rn r 68 97 [some (vL y), l1] [vL y] h Q := Rn_nx pg68 rfl rfl
theorem sX6_isKeyword_97 : Rn r 68 97 [l0, l1] [vL y0] h Q ↔ Rn r 68 100 [l0, l1] [vL 512852847717, vL y0] h Q := Rn_nx pg68 rfl rfl
theorem sX6_isKeyword_100 : Rn r 68 100 [l0, l1] [vL y0, vL y1] h Q ↔ Rn r 68 101 [l0, l1] [vI (lg_cmp y1 y0)] h Q := Rn_nx pg68 rfl rfl
theorem sX6_isKeyword_101 : Rn r 68 101 [l0, l1] [vI x0] h Q ↔ if x0 = 0 then Rn r 68 160 [l0, l1] [] h Q else Rn r 68 104 [l0, l1] [] h Q := Rn_if pg68 rfl rfl rfl
theorem sX6_isKeyword_104 : Rn r 68 104 [some (vL y), l1] [] h Q ↔ Rn r 68 105 [some (vL y), l1] [vL y] h Q := Rn_nx pg68 rfl rfl
theorem sX6_isKeyword_105 : Rn r 68 105 [l0, l1] [vL y0] h Q ↔ Rn r 68 108 [l0, l1] [vL 1819242352, vL y0] h Q := Rn_nx pg68 rfl rfl
theorem sX6_isKeyword_108 : Rn r 68 108 [l0, l1] [vL y0, vL y1] h Q ↔ Rn r 68 109 [l0, l1] [vI (lg_cmp y1 y0)] h Q := Rn_nx pg68 rfl rfl
theorem sX6_isKeyword_109 : Rn r 68 109 [l0, l1] [vI x0] h Q ↔ if x0 = 0 then Rn r 68 160 [l0, l1] [] h Q else Rn r 68 112 [l0, l1] [] h Q := Rn_if pg68 rfl rfl rfl
theorem sX6_isKeyword_112 : Rn r 68 112 [some (vL y), l1] [] h Q ↔ Rn r 68 113 [some (vL y), l1] [vL y] h Q := Rn_nx pg68 rfl rfl
theorem sX6_isKeyword_113 : Rn r 68 113 [l0, l1] [vL y0] h Q ↔ Rn r 68 116 [l0, l1] [vL 422826041707, vL y0] h Q := Rn_nx pg68 rfl rfl
theorem sX6_isKeyword_116 : Rn r 68 116 [l0, l1] [vL y0, vL y1] h Q ↔ Rn r 68 117 [l0, l1] [vI (lg_cmp y1 y0)] h Q := Rn_nx pg68 rfl rfl
theorem sX6_isKeyword_117 : Rn r 68 117 [l0, l1] [vI x0] h Q ↔ if x0 = 0 then Rn r 68 160 [l0, l1] [] h Q else Rn r 68 120 [l0, l1] [] h Q := Rn_if pg68 rfl rfl rfl
theorem sX6_isKeyword_120 : Rn r 68 120 [some (vL y), l1] [] h Q ↔ Rn r 68 121 [some (vL y), l1] [vL y] h Q := Rn_nx pg68 rfl rfl
theorem sX6_isKeyword_121 : Rn r 68 121 [l0, l1] [vL y0] h Q ↔ Rn r 68 124 [l0, l1] [vL 125780071117422, vL y0] h Q := Rn_nx pg68 rfl rfl
theorem sX6_isKeyword_124 : Rn r 68 124 [l0, l1] [vL y0, vL y1] h Q ↔ Rn r 68 125 [l0, l1] [vI (lg_cmp y1 y0)] h Q := Rn_nx pg68 rfl rfl
theorem sX6_isKeyword_125 : Rn r 68 125 [l0, l1] [vI x0] h Q ↔ if x0 = 0 then Rn r 68 160 [l0, l1] [] h Q else Rn r 68 128 [l0, l1] [] h Q := Rn_if pg68 rfl rfl rfl
theorem sX6_isKeyword_128 : Rn r 68 128 [some (vL y), l1] [] h Q ↔ Rn r 68 129 [some (vL y), l1] [vL y] h Q := Rn_nx pg68 rfl rfl
theorem sX6_isKeyword_129 : Rn r 68 129 [l0, l1] [vL y0] h Q ↔ Rn r 68 132 [l0, l1] [vL 7631481, vL y0] h Q := Rn_nx pg68 rfl rfl
theorem sX6_isKeyword_132 : Rn r 68 132 [l0, l1] [vL y0, vL y1] h Q ↔ Rn r 68 133 [l0, l1] [vI (lg_cmp y1 y0)] h Q := Rn_nx pg68 rfl rfl
theorem sX6_isKeyword_133 : Rn r 68 133 [l0, l1] [vI x0] h Q ↔ if x0 = 0 then Rn r 68 160 [l0, l1] [] h Q else Rn r 68 136 [l0, l1] [] h Q := Rn_if pg68 rfl rfl rfl
theorem sX6_isKeyword_136 : Rn r 68 136 [some (vL y), l1] [] h Q ↔ Rn r 68 137 [some (vL y), l1] [vL y] h Q := Rn_nx pg68 rfl rfl
theorem sX6_isKeyword_137 : Rn r 68 137 [l0, l1] [vL y0] h Q ↔ Rn r 68 140 [l0, l1] [vL 426836779880, vL y0] h Q := Rn_nx pg68 rfl rfl
theorem sX6_isKeyword_140 : Rn r 68 140 [l0, l1] [vL y0, vL y1] h Q ↔ Rn r 68 141 [l0, l1] [vI (lg_cmp y1 y0)] h Q := Rn_nx pg68 rfl rfl
theorem sX6_isKeyword_141 : Rn r 68 141 [l0, l1] [vI x0] h Q ↔ if x0 = 0 then Rn r 68 160 [l0, l1] [] h Q else Rn r 68 144 [l0, l1] [] h Q := Rn_if pg68 rfl rfl rfl
theorem sX6_isKeyword_144 : Rn r 68 144 [some (vL y), l1] [] h Q ↔ Rn r 68 145 [some (vL y), l1] [vL y] h Q := Rn_nx pg68 rfl rfl
theorem sX6_isKeyword_145 : Rn r 68 145 [l0, l1] [vL y0] h Q ↔ Rn r 68 148 [l0, l1] [vL 28826370426301561, vL y0] h Q := Rn_nx pg68 rfl rfl
theorem sX6_isKeyword_148 : Rn r 68 148 [l0, l1] [vL y0, vL y1] h Q ↔ Rn r 68 149 [l0, l1] [vI (lg_cmp y1 y0)] h Q := Rn_nx pg68 rfl rfl
theorem sX6_isKeyword_149 : Rn r 68 149 [l0, l1] [vI x0] h Q ↔ if x0 = 0 then Rn r 68 160 [l0, l1] [] h Q else Rn r 68 152 [l0, l1] [] h Q := Rn_if pg68 rfl rfl rfl
theorem sX6_isKeyword_152 : Rn r 68 152 [some (vL y), l1] [] h Q ↔ Rn r 68 153 [some (vL y), l1] [vL y] h Q := Rn_nx pg68 rfl rfl
theorem sX6_isKeyword_153 : Rn r 68 153 [l0, l1] [vL y0] h Q ↔ Rn r 68 156 [l0, l1] [vL 7501166, vL y0] h Q := Rn_nx pg68 rfl rfl
theorem sX6_isKeyword_156 : Rn r 68 156 [l0, l1] [vL y0, vL y1] h Q ↔ Rn r 68 157 [l0, l1] [vI (lg_cmp y1 y0)] h Q := Rn_nx pg68 rfl rfl
theorem sX6_isKeyword_157 : Rn r 68 157 [l0, l1] [vI x0] h Q ↔ if x0 ≠ 0 then Rn r 68 164 [l0, l1] [] h Q else Rn r 68 160 [l0, l1] [] h Q := Rn_if pg68 rfl rfl rfl
theorem sX6_isKeyword_160 : Rn r 68 160 [l0, l1] [] h Q ↔ Rn r 68 161 [l0, l1] [vI 1] h Q := Rn_nx pg68 rfl rfl
theorem sX6_isKeyword_161 : Rn r 68 161 [l0, l1] [vI x0] h Q ↔ Rn r 68 165 [l0, l1] [vI x0] h Q := Rn_nx pg68 rfl rfl
theorem sX6_isKeyword_164 : Rn r 68 164 [l0, l1] [] h Q ↔ Rn r 68 165 [l0, l1] [vI 0] h Q := Rn_nx pg68 rfl rfl
theorem sX6_isKeyword_165 (hf : am_fit 4 x0 = true) : Rn r 68 165 [l0, l1] [vI x0] h Q ↔ Q (Sum.inl (some (vI x0))) h := Rn_end pg68 rfl (if_pos hf)
/-! 69 ThrowRulesModel.kindOf(JI)I -/
theorem eX6_kindOf : Cl r 69 [vR z0, vL y1, vI x2] h Q ↔ Rn r 69 0 [some (vR z0), some (vL y1), none, some (vI x2), none] [] h Q := Cl_in pg69 rfl
theorem sX6_kindOf_0 : Rn r 69 0 [l0, l1, l2, l3, l4] [] h Q ↔ Rn r 69 1 [l0, l1, l2, l3, l4] [vI 0] h Q := Rn_nx pg69 rfl rfl
theorem sX6_kindOf_1 : Rn r 69 1 [l0, l1, l2, l3, l4] [vI x0] h Q ↔ Rn r 69 3 [l0, l1, l2, l3, some (vI x0)] [] h Q := Rn_nx pg69 rfl rfl
theorem sX6_kindOf_3 : Rn r 69 3 [l0, l1, l2, l3, some (vI x)] [] h Q ↔ Rn r 69 5 [l0, l1, l2, l3, some (vI x)] [vI x] h Q := Rn_nx pg69 rfl rfl
theorem sX6_kindOf_5 : Rn r 69 5 [some (vR z), l1, l2, l3, l4] [vI x0] h Q ↔ Rn r 69 6 [some (vR z), l1, l2, l3, l4] [vR z, vI x0] h Q := Rn_nx pg69 rfl rfl
theorem sX6_kindOf_6 (hk : hK h a0 = 15) : Rn r 69 6 [l0, l1, l2, l3, l4] [vR (some a0), vI x1] h Q ↔ Rn r 69 9 [l0, l1, l2, l3, l4] [vR (hR h a0 3), vI x1] h Q := Rn_nx pg69 rfl (if_pos ⟨(hk ▸ Nat.le_refl _), (hk ▸ Nat.le_refl _)⟩)
theorem sX6_kindOf_9 : Rn r 69 9 [some (vR z), l1, l2, l3, l4] [vR z0, vI x1] h Q ↔ Rn r 69 10 [some (vR z), l1, l2, l3, l4] [vR z, vR z0, vI x1] h Q := Rn_nx pg69 rfl rfl
theorem sX6_kindOf_10 (hk : hK h a0 = 15) : Rn r 69 10 [l0, l1, l2, l3, l4] [vR (some a0), vR z1, vI x2] h Q ↔ Rn r 69 13 [l0, l1, l2, l3, l4] [vI (hI h a0 2), vR z1, vI x2] h Q := Rn_nx pg69 rfl (if_pos ⟨(hk ▸ Nat.le_refl _), (hk ▸ Nat.le_refl _)⟩)
theorem sX6_kindOf_13 (hk : 40 ≤ hK h a1) (hk2 : hK h a1 ≤ 41) (hx : ¬ (x0 < 0 ∨ hL h a1 ≤ x0.toNatClampNeg)) : Rn r 69 13 [l0, l1, l2, l3, l4] [vI x0, vR (some a1), vI x2] h Q ↔ Rn r 69 14 [l0, l1, l2, l3, l4] [vI (hI h a1 x0.toNatClampNeg), vI x2] h Q := Rn_nx pg69 rfl ((if_pos ⟨hk, hk2⟩).trans (if_neg hx))
theorem sX6_kindOf_14 : Rn r 69 14 [l0, l1, l2, l3, l4] [vI x0, vI x1] h Q ↔ if x0 ≤ x1 then Rn r 69 65 [l0, l1, l2, l3, l4] [] h Q else Rn r 69 17 [l0, l1, l2, l3, l4] [] h Q := Rn_if pg69 rfl rfl rfl
theorem sX6_kindOf_17 : Rn r 69 17 [some (vR z), l1, l2, l3, l4] [] h Q ↔ Rn r 69 18 [some (vR z), l1, l2, l3, l4] [vR z] h Q := Rn_nx pg69 rfl rfl
theorem sX6_kindOf_18 (hk : hK h a0 = 15) : Rn r 69 18 [l0, l1, l2, l3, l4] [vR (some a0)] h Q ↔ Rn r 69 21 [l0, l1, l2, l3, l4] [vR (hR h a0 4)] h Q := Rn_nx pg69 rfl (if_pos ⟨(hk ▸ Nat.le_refl _), (hk ▸ Nat.le_refl _)⟩)
theorem sX6_kindOf_21 : Rn r 69 21 [some (vR z), l1, l2, l3, l4] [vR z0] h Q ↔ Rn r 69 22 [some (vR z), l1, l2, l3, l4] [vR z, vR z0] h Q := Rn_nx pg69 rfl rfl
theorem sX6_kindOf_22 (hk : hK h a0 = 15) : Rn r 69 22 [l0, l1, l2, l3, l4] [vR (some a0), vR z1] h Q ↔ Rn r 69 25 [l0, l1, l2, l3, l4] [vI (hI h a0 2), vR z1] h Q := Rn_nx pg69 rfl (if_pos ⟨(hk ▸ Nat.le_refl _), (hk ▸ Nat.le_refl _)⟩)
theorem sX6_kindOf_25 : Rn r 69 25 [l0, l1, l2, l3, l4] [vI x0, vR z1] h Q ↔ Rn r 69 27 [l0, l1, l2, l3, l4] [vI 16, vI x0, vR z1] h Q := Rn_nx pg69 rfl rfl
theorem sX6_kindOf_27 : Rn r 69 27 [l0, l1, l2, l3, l4] [vI x0, vI x1, vR z2] h Q ↔ Rn r 69 28 [l0, l1, l2, l3, l4] [vI (x1 * x0), vR z2] h Q := Rn_nx pg69 rfl rfl
theorem sX6_kindOf_28 : Rn r 69 28 [l0, l1, l2, l3, some (vI x)] [vI x0, vR z1] h Q ↔ Rn r 69 30 [l0, l1, l2, l3, some (vI x)] [vI x, vI x0, vR z1] h Q := Rn_nx pg69 rfl rfl
theorem sX6_kindOf_30 : Rn r 69 30 [l0, l1, l2, l3, l4] [vI x0, vI x1, vR z2] h Q ↔ Rn r 69 31 [l0, l1, l2, l3, l4] [vI (x1 + x0), vR z2] h Q := Rn_nx pg69 rfl rfl
theorem sX6_kindOf_31 (hk : hK h a1 = 42) (hx : ¬ (x0 < 0 ∨ hL h a1 ≤ x0.toNatClampNeg)) : Rn r 69 31 [l0, l1, l2, l3, l4] [vI x0, vR (some a1)] h Q ↔ Rn r 69 32 [l0, l1, l2, l3, l4] [vL (hJ h a1 x0.toNatClampNeg)] h Q := Rn_nx pg69 rfl ((if_pos ⟨(hk ▸ Nat.le_refl _), (hk ▸ Nat.le_refl _)⟩).trans (if_neg hx))
theorem sX6_kindOf_32 : Rn r 69 32 [l0, some (vL y), l2, l3, l4] [vL y0] h Q ↔ Rn r 69 33 [l0, some (vL y), l2, l3, l4] [vL y, vL y0] h Q := Rn_nx pg69 rfl rfl
theorem sX6_kindOf_33 : Rn r 69 33 [l0, l1, l2, l3, l4] [vL y0, vL y1] h Q ↔ Rn r 69 34 [l0, l1, l2, l3, l4] [vI (lg_cmp y1 y0)] h Q := Rn_nx pg69 rfl rfl
theorem sX6_kindOf_34 : Rn r 69 34 [l0, l1, l2, l3, l4] [vI x0] h Q ↔ if x0 ≠ 0 then Rn r 69 59 [l0, l1, l2, l3, l4] [] h Q else Rn r 69 37 [l0, l1, l2, l3, l4] [] h Q := Rn_if pg69 rfl rfl rfl
theorem sX6_kindOf_37 : Rn r 69 37 [some (vR z), l1, l2, l3, l4] [] h Q ↔ Rn r 69 38 [some (vR z), l1, l2, l3, l4] [vR z] h Q := Rn_nx pg69 rfl rfl
theorem sX6_kindOf_38 (hk : hK h a0 = 15) : Rn r 69 38 [l0, l1, l2, l3, l4] [vR (some a0)] h Q ↔ Rn r 69 41 [l0, l1, l2, l3, l4] [vR (hR h a0 6)] h Q := Rn_nx pg69 rfl (if_pos ⟨(hk ▸ Nat.le_refl _), (hk ▸ Nat.le_refl _)⟩)
theorem sX6_kindOf_41 : Rn r 69 41 [some (vR z), l1, l2, l3, l4] [vR z0] h Q ↔ Rn r 69 42 [some (vR z), l1, l2, l3, l4] [vR z, vR z0] h Q := Rn_nx pg69 rfl rfl
theorem sX6_kindOf_42 (hk : hK h a0 = 15) : Rn r 69 42 [l0, l1, l2, l3, l4] [vR (some a0), vR z1] h Q ↔ Rn r 69 45 [l0, l1, l2, l3, l4] [vI (hI h a0 2), vR z1] h Q := Rn_nx pg69 rfl (if_pos ⟨(hk ▸ Nat.le_refl _), (hk ▸ Nat.le_refl _)⟩)
theorem sX6_kindOf_45 : Rn r 69 45 [l0, l1, l2, l3, l4] [vI x0, vR z1] h Q ↔ Rn r 69 47 [l0, l1, l2, l3, l4] [vI 16, vI x0, vR z1] h Q := Rn_nx pg69 rfl rfl
theorem sX6_kindOf_47 : Rn r 69 47 [l0, l1, l2, l3, l4] [vI x0, vI x1, vR z2] h Q ↔ Rn r 69 48 [l0, l1, l2, l3, l4] [vI (x1 * x0), vR z2] h Q := Rn_nx pg69 rfl rfl
theorem sX6_kindOf_48 : Rn r 69 48 [l0, l1, l2, l3, some (vI x)] [vI x0, vR z1] h Q ↔ Rn r 69 50 [l0, l1, l2, l3, some (vI x)] [vI x, vI x0, vR z1] h Q := Rn_nx pg69 rfl rfl
theorem sX6_kindOf_50 : Rn r 69 50 [l0, l1, l2, l3, l4] [vI x0, vI x1, vR z2] h Q ↔ Rn r 69 51 [l0, l1, l2, l3, l4] [vI (x1 + x0), vR z2] h Q := Rn_nx pg69 rfl rfl
theorem sX6_kindOf_51 (hk : 40 ≤ hK h a1) (hk2 : hK h a1 ≤ 41) (hx : ¬ (x0 < 0 ∨ hL h a1 ≤ x0.toNatClampNeg)) : Rn r 69 51 [l0, l1, l2, l3, l4] [vI x0, vR (some a1)] h Q ↔ Rn r 69 52 [l0, l1, l2, l3, l4] [vI (hI h a1 x0.toNatClampNeg)] h Q := Rn_nx pg69 rfl ((if_pos ⟨hk, hk2⟩).trans (if_neg hx))
theorem sX6_kindOf_52 : Rn r 69 52 [l0, l1, l2, some (vI x), l4] [vI x0] h Q ↔ Rn r 69 53 [l0, l1, l2, some (vI x), l4] [vI x, vI x0] h Q := Rn_nx pg69 rfl rfl
theorem sX6_kindOf_53 : Rn r 69 53 [l0, l1, l2, l3, l4] [vI x0, vI x1] h Q ↔ if x0 ≤ x1 then Rn r 69 59 [l0, l1, l2, l3, l4] [] h Q else Rn r 69 56 [l0, l1, l2, l3, l4] [] h Q := Rn_if pg69 rfl rfl rfl
theorem sX6_kindOf_56 : Rn r 69 56 [l0, l1, l2, l3, some (vI x)] [] h Q ↔ Rn r 69 58 [l0, l1, l2, l3, some (vI x)] [vI x] h Q := Rn_nx pg69 rfl rfl
theorem sX6_kindOf_58 : Rn r 69 58 [l0, l1, l2, l3, l4] [vI x0] h Q ↔ Q (Sum.inl (some (vI x0))) h := Rn_end pg69 rfl rfl
theorem sX6_kindOf_59 : Rn r 69 59 [l0, l1, l2, l3, some (vI x)] [] h Q ↔ Rn r 69 62 [l0, l1, l2, l3, some (vI (x + 1))] [] h Q := Rn_nx pg69 rfl rfl
theorem sX6_kindOf_62 : Rn r 69 62 [l0, l1, l2, l3, l4] [] h Q ↔ Rn r 69 3 [l0, l1, l2, l3, l4] [] h Q := Rn_nx pg69 rfl rfl
theorem sX6_kindOf_65 : Rn r 69 65 [l0, l1, l2, l3, l4] [] h Q ↔ Rn r 69 66 [l0, l1, l2, l3, l4] [vI (-1)] h Q := Rn_nx pg69 rfl rfl
theorem sX6_kindOf_66 : Rn r 69 66 [l0, l1, l2, l3, l4] [vI x0] h Q ↔ Q (Sum.inl (some (vI x0))) h := Rn_end pg69 rfl rfl
/-! 70 ThrowRules$Walk.go(LThrowRules$Block;J)I -/
theorem eX5_go : Cl r 70 [vR z0, vR z1, vL y2] h Q ↔ Rn r 70 0 [some (vR z0), some (vR z1), some (vL y2), none] [] h Q := Cl_in pg70 rfl
theorem sX5_go_0 : Rn r 70 0 [some (vR z), l1, l2, l3] [] h Q ↔ Rn r 70 1 [some (vR z), l1, l2, l3] [vR z] h Q := Rn_nx pg70 rfl rfl
theorem sX5_go_1 : Rn r 70 1 [l0, l1, l2, l3] [vR z0] h Q ↔ Rn r 70 2 [l0, l1, l2, l3] [vI 0, vR z0] h Q := Rn_nx pg70 rfl rfl
theorem sX5_go_2 (hk : hK h a1 = 14) : Rn r 70 2 [l0, l1, l2, l3] [vI x0, vR (some a1)] h Q ↔ Rn r 70 5 [l0, l1, l2, l3] [] (putI h a1 0 x0) Q := Rn_nx pg70 rfl ((if_pos ⟨(hk ▸ Nat.le_refl _), (hk ▸ Nat.le_refl _)⟩).trans rfl)
theorem sX5_go_5 : Rn r 70 5 [some (vR z), l1, l2, l3] [] h Q ↔ Rn r 70 6 [some (vR z), l1, l2, l3] [vR z] h Q := Rn_nx pg70 rfl rfl
theorem sX5_go_6 : Rn r 70 6 [l0, l1, l2, l3] [vR z0] h Q ↔ Rn r 70 7 [l0, l1, l2, l3] [vR none, vR z0] h Q := Rn_nx pg70 rfl rfl
theorem sX5_go_7 (hk : hK h a1 = 14) : Rn r 70 7 [l0, l1, l2, l3] [vR z0, vR (some a1)] h Q ↔ Rn r 70 10 [l0, l1, l2, l3] [] (putR h a1 1 z0) Q := Rn_nx pg70 rfl ((if_pos ⟨(hk ▸ Nat.le_refl _), (hk ▸ Nat.le_refl _)⟩).trans rfl)
theorem sX5_go_10 : Rn r 70 10 [some (vR z), l1, l2, l3] [] h Q ↔ Rn r 70 11 [some (vR z), l1, l2, l3] [vR z] h Q := Rn_nx pg70 rfl rfl
theorem sX5_go_11 : Rn r 70 11 [l0, l1, l2, l3] [vR z0] h Q ↔ Rn r 70 12 [l0, l1, l2, l3] [vR none, vR z0] h Q := Rn_nx pg70 rfl rfl
theorem sX5_go_12 (hk : hK h a1 = 14) : Rn r 70 12 [l0, l1, l2, l3] [vR z0, vR (some a1)] h Q ↔ Rn r 70 15 [l0, l1, l2, l3] [] (putR h a1 2 z0) Q := Rn_nx pg70 rfl ((if_pos ⟨(hk ▸ Nat.le_refl _), (hk ▸ Nat.le_refl _)⟩).trans rfl)
theorem sX5_go_15 : Rn r 70 15 [some (vR z), l1, l2, l3] [] h Q ↔ Rn r 70 16 [some (vR z), l1, l2, l3] [vR z] h Q := Rn_nx pg70 rfl rfl
theorem sX5_go_16 : Rn r 70 16 [l0, l1, some (vL y), l3] [vR z0] h Q ↔ Rn r 70 17 [l0, l1, some (vL y), l3] [vL y, vR z0] h Q := Rn_nx pg70 rfl rfl
theorem sX5_go_17 (hk : hK h a1 = 14) : Rn r 70 17 [l0, l1, l2, l3] [vL y0, vR (some a1)] h Q ↔ Rn r 70 20 [l0, l1, l2, l3] [] (putJ h a1 3 y0) Q := Rn_nx pg70 rfl ((if_pos ⟨(hk ▸ Nat.le_refl _), (hk ▸ Nat.le_refl _)⟩).trans rfl)
theorem sX5_go_20 : Rn r 70 20 [some (vR z), l1, l2, l3] [] h Q ↔ Rn r 70 21 [some (vR z), l1, l2, l3] [vR z] h Q := Rn_nx pg70 rfl rfl
theorem sX5_go_21 : Rn r 70 21 [l0, l1, l2, l3] [vR z0] h Q ↔ Rn r 70 22 [l0, l1, l2, l3] [vI 0, vR z0] h Q := Rn_nx pg70 rfl rfl
theorem sX5_go_22 (hk : hK h a1 = 14) : Rn r 70 22 [l0, l1, l2, l3] [vI x0, vR (some a1)] h Q ↔ Rn r 70 25 [l0, l1, l2, l3] [] (putI h a1 4 x0) Q := Rn_nx pg70 rfl ((if_pos ⟨(hk ▸ Nat.le_refl _), (hk ▸ Nat.le_refl _)⟩).trans rfl)
theorem sX5_go_25 : Rn r 70 25 [l0, some (vR z), l2, l3] [] h Q ↔ Rn r 70 26 [l0, some (vR z), l2, l3] [vR z] h Q := Rn_nx pg70 rfl rfl
theorem sX5_go_26 : Rn r 70 26 [some (vR z), l1, l2, l3] [vR z0] h Q ↔ Rn r 70 27 [some (vR z), l1, l2, l3] [vR z, vR z0] h Q := Rn_nx pg70 rfl rfl
theorem sX5_go_27 (hk : hK h a1 = 21) : Rn (r + 1) 70 27 [l0, l1, l2, l3] [vR z0, vR (some a1)] h Q ↔ Cl r 106 [vR (some a1), vR z0] h (Kt (r + 1) 70 30 [l0, l1, l2, l3] [] Q) := Rn_call pg70 rfl (by simp only [am_exec, am_inv, am_pop, am_lk, hk]; rfl) pg106 rfl rfl rfl
theorem sX5_go_30 : Rn r 70 30 [some (vR z), l1, l2, l3] [] h Q ↔ Rn r 70 31 [some (vR z), l1, l2, l3] [vR z] h Q := Rn_nx pg70 rfl rfl
theorem sX5_go_31 (hk : hK h a0 = 14) : Rn r 70 31 [l0, l1, l2, l3] [vR (some a0)] h Q ↔ Rn r 70 34 [l0, l1, l2, l3] [vI (hI h a0 0)] h Q := Rn_nx pg70 rfl (if_pos ⟨(hk ▸ Nat.le_refl _), (hk ▸ Nat.le_refl _)⟩)
theorem sX5_go_34 : Rn r 70 34 [l0, l1, l2, l3] [vI x0] h Q ↔ Rn r 70 35 [l0, l1, l2, l3] [vI 4, vI x0] h Q := Rn_nx pg70 rfl rfl
theorem sX5_go_35 : Rn r 70 35 [l0, l1, l2, l3] [vI x0, vI x1] h Q ↔ if x1 ≠ x0 then Rn r 70 43 [l0, l1, l2, l3] [] h Q else Rn r 70 38 [l0, l1, l2, l3] [] h Q := Rn_if pg70 rfl rfl rfl
theorem sX5_go_38 : Rn r 70 38 [l0, l1, l2, l3] [] h Q ↔ Rn r 70 40 [l0, l1, l2, l3] [vI (-2)] h Q := Rn_nx pg70 rfl rfl
theorem sX5_go_40 : Rn r 70 40 [l0, l1, l2, l3] [vI x0] h Q ↔ Rn r 70 62 [l0, l1, l2, l3] [vI x0] h Q := Rn_nx pg70 rfl rfl
theorem sX5_go_43 : Rn r 70 43 [some (vR z), l1, l2, l3] [] h Q ↔ Rn r 70 44 [some (vR z), l1, l2, l3] [vR z] h Q := Rn_nx pg70 rfl rfl
theorem sX5_go_44 (hk : hK h a0 = 14) : Rn r 70 44 [l0, l1, l2, l3] [vR (some a0)] h Q ↔ Rn r 70 47 [l0, l1, l2, l3] [vI (hI h a0 0)] h Q := Rn_nx pg70 rfl (if_pos ⟨(hk ▸ Nat.le_refl _), (hk ▸ Nat.le_refl _)⟩)
theorem sX5_go_47 : Rn r 70 47 [l0, l1, l2, l3] [vI x0] h Q ↔ Rn r 70 48 [l0, l1, l2, l3] [vI 1, vI x0] h Q := Rn_nx pg70 rfl rfl
theorem sX5_go_48 : Rn r 70 48 [l0, l1, l2, l3] [vI x0, vI x1] h Q ↔ if x1 ≠ x0 then Rn r 70 61 [l0, l1, l2, l3] [] h Q else Rn r 70 51 [l0, l1, l2, l3] [] h Q := Rn_if pg70 rfl rfl rfl
theorem sX5_go_51 : Rn r 70 51 [some (vR z), l1, l2, l3] [] h Q ↔ Rn r 70 52 [some (vR z), l1, l2, l3] [vR z] h Q := Rn_nx pg70 rfl rfl
theorem sX5_go_52 (hk : hK h a0 = 14) : Rn r 70 52 [l0, l1, l2, l3] [vR (some a0)] h Q ↔ Rn r 70 55 [l0, l1, l2, l3] [vR (hR h a0 1)] h Q := Rn_nx pg70 rfl (if_pos ⟨(hk ▸ Nat.le_refl _), (hk ▸ Nat.le_refl _)⟩)
theorem sX5_go_55 (hk : hK h a0 = 7) : Rn r 70 55 [l0, l1, l2, l3] [vR (some a0)] h Q ↔ Rn r 70 58 [l0, l1, l2, l3] [vI (hI h a0 1)] h Q := Rn_nx pg70 rfl (if_pos ⟨(hk ▸ Nat.le_refl _), (hk ▸ Nat.le_refl _)⟩)
theorem sX5_go_58 : Rn r 70 58 [l0, l1, l2, l3] [vI x0] h Q ↔ Rn r 70 62 [l0, l1, l2, l3] [vI x0] h Q := Rn_nx pg70 rfl rfl
theorem sX5_go_61 : Rn r 70 61 [l0, l1, l2, l3] [] h Q ↔ Rn r 70 62 [l0, l1, l2, l3] [vI (-1)] h Q := Rn_nx pg70 rfl rfl
theorem sX5_go_62 : Rn r 70 62 [l0, l1, l2, l3] [vI x0] h Q ↔ Q (Sum.inl (some (vI x0))) h := Rn_end pg70 rfl rfl
/-! 71 ThrowRulesModel.push(I)V -/
theorem eX6_push : Cl r 71 [vR z0, vI x1] h Q ↔ Rn r 71 0 [some (vR z0), some (vI x1)] [] h Q := Cl_in pg71 rfl
theorem sX6_push_0 : Rn r 71 0 [some (vR z), l1] [] h Q ↔ Rn r 71 1 [some (vR z), l1] [vR z] h Q := Rn_nx pg71 rfl rfl
theorem sX6_push_1 (hk : hK h a0 = 15) : Rn r 71 1 [l0, l1] [vR (some a0)] h Q ↔ Rn r 71 4 [l0, l1] [vR (hR h a0 70)] h Q := Rn_nx pg71 rfl (if_pos ⟨(hk ▸ Nat.le_refl _), (hk ▸ Nat.le_refl _)⟩)
theorem sX6_push_4 : Rn r 71 4 [some (vR z), l1] [vR z0] h Q ↔ Rn r 71 5 [some (vR z), l1] [vR z, vR z0] h Q := Rn_nx pg71 rfl rfl
theorem sX6_push_5 (hk : hK h a0 = 15) : Rn r 71 5 [l0, l1] [vR (some a0), vR z1] h Q ↔ Rn r 71 8 [l0, l1] [vI (hI h a0 69), vR z1] h Q := Rn_nx pg71 rfl (if_pos ⟨(hk ▸ Nat.le_refl _), (hk ▸ Nat.le_refl _)⟩)
theorem sX6_push_8 : Rn r 71 8 [l0, some (vI x)] [vI x0, vR z1] h Q ↔ Rn r 71 9 [l0, some (vI x)] [vI x, vI x0, vR z1] h Q := Rn_nx pg71 rfl rfl
theorem sX6_push_9 (hk : hK h a2 = 40) (hx : ¬ (x1 < 0 ∨ hL h a2 ≤ x1.toNatClampNeg)) : Rn r 71 9 [l0, l1] [vI x0, vI x1, vR (some a2)] h Q ↔ Rn r 71 10 [l0, l1] [] (putI h a2 x1.toNatClampNeg x0) Q := Rn_nx pg71 rfl ((if_pos hk).trans (if_neg hx))
theorem sX6_push_10 : Rn r 71 10 [some (vR z), l1] [] h Q ↔ Rn r 71 11 [some (vR z), l1] [vR z] h Q := Rn_nx pg71 rfl rfl
theorem sX6_push_11 (hk : hK h a0 = 15) : Rn r 71 11 [l0, l1] [vR (some a0)] h Q ↔ Rn r 71 14 [l0, l1] [vR (hR h a0 71)] h Q := Rn_nx pg71 rfl (if_pos ⟨(hk ▸ Nat.le_refl _), (hk ▸ Nat.le_refl _)⟩)
theorem sX6_push_14 : Rn r 71 14 [some (vR z), l1] [vR z0] h Q ↔ Rn r 71 15 [some (vR z), l1] [vR z, vR z0] h Q := Rn_nx pg71 rfl rfl
theorem sX6_push_15 (hk : hK h a0 = 15) : Rn r 71 15 [l0, l1] [vR (some a0), vR z1] h Q ↔ Rn r 71 18 [l0, l1] [vI (hI h a0 69), vR z1] h Q := Rn_nx pg71 rfl (if_pos ⟨(hk ▸ Nat.le_refl _), (hk ▸ Nat.le_refl _)⟩)
theorem sX6_push_18 : Rn r 71 18 [some (vR z), l1] [vI x0, vR z1] h Q ↔ Rn r 71 19 [some (vR z), l1] [vR z, vI x0, vR z1] h Q := Rn_nx pg71 rfl rfl
theorem sX6_push_19 (hk : hK h a0 = 15) : Rn r 71 19 [l0, l1] [vR (some a0), vI x1, vR z2] h Q ↔ Rn r 71 22 [l0, l1] [vR (hR h a0 45), vI x1, vR z2] h Q := Rn_nx pg71 rfl (if_pos ⟨(hk ▸ Nat.le_refl _), (hk ▸ Nat.le_refl _)⟩)
theorem sX6_push_22 : Rn r 71 22 [l0, some (vI x)] [vR z0, vI x1, vR z2] h Q ↔ Rn r 71 23 [l0, some (vI x)] [vI x, vR z0, vI x1, vR z2] h Q := Rn_nx pg71 rfl rfl
theorem sX6_push_23 (hk : 40 ≤ hK h a1) (hk2 : hK h a1 ≤ 41) (hx : ¬ (x0 < 0 ∨ hL h a1 ≤ x0.toNatClampNeg)) : Rn r 71 23 [l0, l1] [vI x0, vR (some a1), vI x2, vR z3] h Q ↔ Rn r 71 24 [l0, l1] [vI (hI h a1 x0.toNatClampNeg), vI x2, vR z3] h Q := Rn_nx pg71 rfl ((if_pos ⟨hk, hk2⟩).trans (if_neg hx))
theorem sX6_push_24 (hk : hK h a2 = 40) (hx : ¬ (x1 < 0 ∨ hL h a2 ≤ x1.toNatClampNeg)) : Rn r 71 24 [l0, l1] [vI x0, vI x1, vR (some a2)] h Q ↔ Rn r 71 25 [l0, l1] [] (putI h a2 x1.toNatClampNeg x0) Q := Rn_nx pg71 rfl ((if_pos hk).trans (if_neg hx))
theorem sX6_push_25 : Rn r 71 25 [some (vR z), l1] [] h Q ↔ Rn r 71 26 [some (vR z), l1] [vR z] h Q := Rn_nx pg71 rfl rfl
theorem sX6_push_26 : Rn r 71 26 [l0, l1] [vR z0] h Q ↔ Rn r 71 27 [l0, l1] [vR z0, vR z0] h Q := Rn_nx pg71 rfl rfl
theorem sX6_push_27 (hk : hK h a0 = 15) : Rn r 71 27 [l0, l1] [vR (some a0), vR z1] h Q ↔ Rn r 71 30 [l0, l1] [vI (hI h a0 69), vR z1] h Q := Rn_nx pg71 rfl (if_pos ⟨(hk ▸ Nat.le_refl _), (hk ▸ Nat.le_refl _)⟩)
theorem sX6_push_30 : Rn r 71 30 [l0, l1] [vI x0, vR z1] h Q ↔ Rn r 71 31 [l0, l1] [vI 1, vI x0, vR z1] h Q := Rn_nx pg71 rfl rfl
theorem sX6_push_31 : Rn r 71 31 [l0, l1] [vI x0, vI x1, vR z2] h Q ↔ Rn r 71 32 [l0, l1] [vI (x1 + x0), vR z2] h Q := Rn_nx pg71 rfl rfl
theorem sX6_push_32 (hk : hK h a1 = 15) : Rn r 71 32 [l0, l1] [vI x0, vR (some a1)] h Q ↔ Rn r 71 35 [l0, l1] [] (putI h a1 69 x0) Q := Rn_nx pg71 rfl ((if_pos ⟨(hk ▸ Nat.le_refl _), (hk ▸ Nat.le_refl _)⟩).trans rfl)
theorem sX6_push_35 : Rn r 71 35 [l0, l1] [] h Q ↔ Q (Sum.inl none) h := Rn_end pg71 rfl rfl
/-! 72 ThrowRulesModel.isStep()Z -/
theorem eX6_isStep : Cl r 72 [vR z0] h Q ↔ Rn r 72 0 [some (vR z0)] [] h Q := Cl_in pg72 rfl
theorem sX6_isStep_0 : Rn r 72 0 [some (vR z)] [] h Q ↔ Rn r 72 1 [some (vR z)] [vR z] h Q := Rn_nx pg72 rfl rfl
theorem sX6_isStep_1 : Rn r 72 1 [some (vR z)] [vR z0] h Q ↔ Rn r 72 2 [some (vR z)] [vR z, vR z0] h Q := Rn_nx pg72 rfl rfl
theorem sX6_isStep_2 (hk : hK h a0 = 15) : Rn r 72 2 [l0] [vR (some a0), vR z1] h Q ↔ Rn r 72 5 [l0] [vI (hI h a0 65), vR z1] h Q := Rn_nx pg72 rfl (if_pos ⟨(hk ▸ Nat.le_refl _), (hk ▸ Nat.le_refl _)⟩)
theorem sX6_isStep_5 : Rn r 72 5 [l0] [vI x0, vR z1] h Q ↔ Rn r 72 8 [l0] [vI 300, vI x0, vR z1] h Q := Rn_nx pg72 rfl rfl
theorem sX6_isStep_8 : Rn r 72 8 [l0] [vI x0, vI x1, vR z2] h Q ↔ if x1 ≠ x0 then Rn r 72 15 [l0] [vR z2] h Q else Rn r 72 11 [l0] [vR z2] h Q := Rn_if pg72 rfl rfl rfl
theorem sX6_isStep_11 : Rn r 72 11 [l0] [vR z0] h Q ↔ Rn r 72 12 [l0] [vI 1, vR z0] h Q := Rn_nx pg72 rfl rfl
theorem sX6_isStep_12 : Rn r 72 12 [l0] [vI x0, vR z1] h Q ↔ Rn r 72 16 [l0] [vI x0, vR z1] h Q := Rn_nx pg72 rfl rfl
theorem sX6_isStep_15 : Rn r 72 15 [l0] [vR z0] h Q ↔ Rn r 72 16 [l0] [vI 0, vR z0] h Q := Rn_nx pg72 rfl rfl
theorem sX6_isStep_16 (hk : hK h a1 = 15) (hf : am_fit 4 x0 = true) : Rn r 72 16 [l0] [vI x0, vR (some a1)] h Q ↔ Rn r 72 19 [l0] [] (putI h a1 68 x0) Q := Rn_nx pg72 rfl ((if_pos ⟨(hk ▸ Nat.le_refl _), (hk ▸ Nat.le_refl _)⟩).trans (if_pos hf))
theorem sX6_isStep_19 : Rn r 72 19 [some (vR z)] [] h Q ↔ Rn r 72 20 [some (vR z)] [vR z] h Q := Rn_nx pg72 rfl rfl
theorem sX6_isStep_20 : Rn r 72 20 [l0] [vR z0] h Q ↔ Rn r 72 21 [l0] [vR z0, vR z0] h Q := Rn_nx pg72 rfl rfl
theorem sX6_isStep_21 (hk : hK h a0 = 15) : Rn r 72 21 [l0] [vR (some a0), vR z1] h Q ↔ Rn r 72 24 [l0] [vI (hI h a0 65), vR z1] h Q := Rn_nx pg72 rfl (if_pos ⟨(hk ▸ Nat.le_refl _), (hk ▸ Nat.le_refl _)⟩)
theorem sX6_isStep_24 : Rn r 72 24 [some (vR z)] [vI x0, vR z1] h Q ↔ Rn r 72 25 [some (vR z)] [vR z, vI x0, vR z1] h Q := Rn_nx pg72 rfl rfl
theorem sX6_isStep_25 (hk : hK h a0 = 15) : Rn r 72 25 [l0] [vR (some a0), vI x1, vR z2] h Q ↔ Rn r 72 28 [l0] [vI (hI h a0 68), vI x1, vR z2] h Q := Rn_nx pg72 rfl (if_pos ⟨(hk ▸ Nat.le_refl _), (hk ▸ Nat.le_refl _)⟩)
theorem sX6_isStep_28 : Rn r 72 28 [l0] [vI x0, vI x1, vR z2] h Q ↔ if x0 = 0 then Rn r 72 35 [l0] [vI x1, vR z2] h Q else Rn r 72 31 [l0] [vI x1, vR z2] h Q := Rn_if pg72 rfl rfl rfl
theorem sX6_isStep_31 : Rn r 72 31 [l0] [vI x0, vR z1] h Q ↔ Rn r 72 32 [l0] [vI 0, vI x0, vR z1] h Q := Rn_nx pg72 rfl rfl
theorem sX6_isStep_32 : Rn r 72 32 [l0] [vI x0, vI x1, vR z2] h Q ↔ Rn r 72 36 [l0] [vI x0, vI x1, vR z2] h Q := Rn_nx pg72 rfl rfl
theorem sX6_isStep_35 : Rn r 72 35 [l0] [vI x0, vR z1] h Q ↔ Rn r 72 36 [l0] [vI 1, vI x0, vR z1] h Q := Rn_nx pg72 rfl rfl
theorem sX6_isStep_36 : Rn r 72 36 [l0] [vI x0, vI x1, vR z2] h Q ↔ Rn r 72 37 [l0] [vI (x1 + x0), vR z2] h Q := Rn_nx pg72 rfl rfl
theorem sX6_isStep_37 (hk : hK h a1 = 15) : Rn r 72 37 [l0] [vI x0, vR (some a1)] h Q ↔ Rn r 72 40 [l0] [] (putI h a1 65 x0) Q := Rn_nx pg72 rfl ((if_pos ⟨(hk ▸ Nat.le_refl _), (hk ▸ Nat.le_refl _)⟩).trans rfl)
theorem sX6_isStep_40 : Rn r 72 40 [some (vR z)] [] h Q ↔ Rn r 72 41 [some (vR z)] [vR z] h Q := Rn_nx pg72 rfl rfl
theorem sX6_isStep_41 (hk : hK h a0 = 15) : Rn r 72 41 [l0] [vR (some a0)] h Q ↔ Rn r 72 44 [l0] [vI (hI h a0 68)] h Q := Rn_nx pg72 rfl (if_pos ⟨(hk ▸ Nat.le_refl _), (hk ▸ Nat.le_refl _)⟩)
theorem sX6_isStep_44 : Rn r 72 44 [l0] [vI x0] h Q ↔ if x0 ≠ 0 then Rn r 72 51 [l0] [] h Q else Rn r 72 47 [l0] [] h Q := Rn_if pg72 rfl rfl rfl
theorem sX6_isStep_47 : Rn r 72 47 [l0] [] h Q ↔ Rn r 72 48 [l0] [vI 1] h Q := Rn_nx pg72 rfl rfl
theorem sX6_isStep_48 : Rn r 72 48 [l0] [vI x0] h Q ↔ Rn r 72 52 [l0] [vI x0] h Q := Rn_nx pg72 rfl rfl
theorem sX6_isStep_51 : Rn r 72 51 [l0] [] h Q ↔ Rn r 72 52 [l0] [vI 0] h Q := Rn_nx pg72 rfl rfl
theorem sX6_isStep_52 (hf : am_fit 4 x0 = true) : Rn r 72 52 [l0] [vI x0] h Q ↔ Q (Sum.inl (some (vI x0))) h := Rn_end pg72 rfl (if_pos hf)
/-! 73 ThrowRulesModel.begin(I)V -/
theorem eX6_begin : Cl r 73 [vR z0, vI x1] h Q ↔ Rn r 73 0 [some (vR z0), some (vI x1), none, none, none, none, none] [] h Q := Cl_in pg73 rfl
theorem sX6_begin_0 : Rn r 73 0 [some (vR z), l1, l2, l3, l4, l5, l6] [] h Q ↔ Rn r 73 1 [some (vR z), l1, l2, l3, l4, l5, l6] [vR z] h Q := Rn_nx pg73 rfl rfl
theorem sX6_begin_1 (hk : hK h a0 = 15) : Rn r 73 1 [l0, l1, l2, l3, l4, l5, l6] [vR (some a0)] h Q ↔ Rn r 73 4 [l0, l1, l2, l3, l4, l5, l6] [vR (hR h a0 20)] h Q := Rn_nx pg73 rfl (if_pos ⟨(hk ▸ Nat.le_refl _), (hk ▸ Nat.le_refl _)⟩)
theorem sX6_begin_4 : Rn r 73 4 [l0, some (vI x), l2, l3, l4, l5, l6] [vR z0] h Q ↔ Rn r 73 5 [l0, some (vI x), l2, l3, l4, l5, l6] [vI x, vR z0] h Q := Rn_nx pg73 rfl rfl
theorem sX6_begin_5 (hk : 40 ≤ hK h a1) (hk2 : hK h a1 ≤ 41) (hx : ¬ (x0 < 0 ∨ hL h a1 ≤ x0.toNatClampNeg)) : Rn r 73 5 [l0, l1, l2, l3, l4, l5, l6] [vI x0, vR (some a1)] h Q ↔ Rn r 73 6 [l0, l1, l2, l3, l4, l5, l6] [vI (hI h a1 x0.toNatClampNeg)] h Q := Rn_nx pg73 rfl ((if_pos ⟨hk, hk2⟩).trans (if_neg hx))
theorem sX6_begin_6 : Rn r 73 6 [l0, l1, l2, l3, l4, l5, l6] [vI x0] h Q ↔ Rn r 73 7 [l0, l1, l2, l3, l4, l5, l6] [vI 2, vI x0] h Q := Rn_nx pg73 rfl rfl
theorem sX6_begin_7 : Rn r 73 7 [l0, l1, l2, l3, l4, l5, l6] [vI x0, vI x1] h Q ↔ if x1 = x0 then Rn r 73 20 [l0, l1, l2, l3, l4, l5, l6] [] h Q else Rn r 73 10 [l0, l1, l2, l3, l4, l5, l6] [] h Q := Rn_if pg73 rfl rfl rfl
theorem sX6_begin_10 : Rn r 73 10 [some (vR z), l1, l2, l3, l4, l5, l6] [] h Q ↔ Rn r 73 11 [some (vR z), l1, l2, l3, l4, l5, l6] [vR z] h Q := Rn_nx pg73 rfl rfl
theorem sX6_begin_11 (hk : hK h a0 = 15) : Rn r 73 11 [l0, l1, l2, l3, l4, l5, l6] [vR (some a0)] h Q ↔ Rn r 73 14 [l0, l1, l2, l3, l4, l5, l6] [vR (hR h a0 20)] h Q := Rn_nx pg73 rfl (if_pos ⟨(hk ▸ Nat.le_refl _), (hk ▸ Nat.le_refl _)⟩)
theorem sX6_begin_14 : Rn r 73 14 [l0, some (vI x), l2, l3, l4, l5, l6] [vR z0] h Q ↔ Rn r 73 15 [l0, some (vI x), l2, l3, l4, l5, l6] [vI x, vR z0] h Q := Rn_nx pg73 rfl rfl
theorem sX6_begin_15 (hk : 40 ≤ hK h a1) (hk2 : hK h a1 ≤ 41) (hx : ¬ (x0 < 0 ∨ hL h a1 ≤ x0.toNatClampNeg)) : Rn r 73 15 [l0, l1, l2, l3, l4, l5, l6] [vI x0, vR (some a1)] h Q ↔ Rn r 73 16 [l0, l1, l2, l3, l4, l5, l6] [vI (hI h a1 x0.toNatClampNeg)] h Q := Rn_nx pg73 rfl ((if_pos ⟨hk, hk2⟩).trans (if_neg hx))
theorem sX6_begin_16 : Rn r 73 16 [l0, l1, l2, l3, l4, l5, l6] [vI x0] h Q ↔ Rn r 73 17 [l0, l1, l2, l3, l4, l5, l6] [vI 3, vI x0] h Q := Rn_nx pg73 rfl rfl
theorem sX6_begin_17 : Rn r 73 17 [l0, l1, l2, l3, l4, l5, l6] [vI x0, vI x1] h Q ↔ if x1 ≠ x0 then Rn r 73 39 [l0, l1, l2, l3, l4, l5, l6] [] h Q else Rn r 73 20 [l0, l1, l2, l3, l4, l5, l6] [] h Q := Rn_if pg73 rfl rfl rfl
theorem sX6_begin_20 : Rn r 73 20 [some (vR z), l1, l2, l3, l4, l5, l6] [] h Q ↔ Rn r 73 21 [some (vR z), l1, l2, l3, l4, l5, l6] [vR z] h Q := Rn_nx pg73 rfl rfl
theorem sX6_begin_21 : Rn r 73 21 [some (vR z), l1, l2, l3, l4, l5, l6] [vR z0] h Q ↔ Rn r 73 22 [some (vR z), l1, l2, l3, l4, l5, l6] [vR z, vR z0] h Q := Rn_nx pg73 rfl rfl
theorem sX6_begin_22 (hk : hK h a0 = 15) : Rn r 73 22 [l0, l1, l2, l3, l4, l5, l6] [vR (some a0), vR z1] h Q ↔ Rn r 73 25 [l0, l1, l2, l3, l4, l5, l6] [vR (hR h a0 25), vR z1] h Q := Rn_nx pg73 rfl (if_pos ⟨(hk ▸ Nat.le_refl _), (hk ▸ Nat.le_refl _)⟩)
theorem sX6_begin_25 : Rn r 73 25 [l0, some (vI x), l2, l3, l4, l5, l6] [vR z0, vR z1] h Q ↔ Rn r 73 26 [l0, some (vI x), l2, l3, l4, l5, l6] [vI x, vR z0, vR z1] h Q := Rn_nx pg73 rfl rfl
theorem sX6_begin_26 (hk : hK h a1 = 42) (hx : ¬ (x0 < 0 ∨ hL h a1 ≤ x0.toNatClampNeg)) : Rn r 73 26 [l0, l1, l2, l3, l4, l5, l6] [vI x0, vR (some a1), vR z2] h Q ↔ Rn r 73 27 [l0, l1, l2, l3, l4, l5, l6] [vL (hJ h a1 x0.toNatClampNeg), vR z2] h Q := Rn_nx pg73 rfl ((if_pos ⟨(hk ▸ Nat.le_refl _), (hk ▸ Nat.le_refl _)⟩).trans (if_neg hx))
theorem sX6_begin_27 : Rn r 73 27 [some (vR z), l1, l2, l3, l4, l5, l6] [vL y0, vR z1] h Q ↔ Rn r 73 28 [some (vR z), l1, l2, l3, l4, l5, l6] [vR z, vL y0, vR z1] h Q := Rn_nx pg73 rfl rfl
theorem sX6_begin_28 (hk : hK h a0 = 15) : Rn r 73 28 [l0, l1, l2, l3, l4, l5, l6] [vR (some a0), vL y1, vR z2] h Q ↔ Rn r 73 31 [l0, l1, l2, l3, l4, l5, l6] [vR (hR h a0 22), vL y1, vR z2] h Q := Rn_nx pg73 rfl (if_pos ⟨(hk ▸ Nat.le_refl _), (hk ▸ Nat.le_refl _)⟩)
theorem sX6_begin_31 : Rn r 73 31 [l0, some (vI x), l2, l3, l4, l5, l6] [vR z0, vL y1, vR z2] h Q ↔ Rn r 73 32 [l0, some (vI x), l2, l3, l4, l5, l6] [vI x, vR z0, vL y1, vR z2] h Q := Rn_nx pg73 rfl rfl
theorem sX6_begin_32 (hk : 40 ≤ hK h a1) (hk2 : hK h a1 ≤ 41) (hx : ¬ (x0 < 0 ∨ hL h a1 ≤ x0.toNatClampNeg)) : Rn r 73 32 [l0, l1, l2, l3, l4, l5, l6] [vI x0, vR (some a1), vL y2, vR z3] h Q ↔ Rn r 73 33 [l0, l1, l2, l3, l4, l5, l6] [vI (hI h a1 x0.toNatClampNeg), vL y2, vR z3] h Q := Rn_nx pg73 rfl ((if_pos ⟨hk, hk2⟩).trans (if_neg hx))
theorem sX6_begin_33 (hk : hK h a2 = 15) : Rn r 73 33 [l0, l1, l2, l3, l4, l5, l6] [vI x0, vL y1, vR (some a2)] h Q ↔ Cl r 107 [vR (some a2), vL y1, vI x0] h (Kt r 73 36 [l0, l1, l2, l3, l4, l5, l6] [] Q) := Rn_call pg73 rfl (by simp only [am_exec, am_inv, am_pop, am_lk, hk]; rfl) pg107 rfl rfl rfl
theorem sX6_begin_36 : Rn r 73 36 [l0, l1, l2, l3, l4, l5, l6] [vI x0] h Q ↔ Rn r 73 40 [l0, l1, l2, l3, l4, l5, l6] [vI x0] h Q := Rn_nx pg73 rfl rfl
theorem sX6_begin_39 : Rn r 73 39 [l0, l1, l2, l3, l4, l5, l6] [] h Q ↔ Rn r 73 40 [l0, l1, l2, l3, l4, l5, l6] [vI (-1)] h Q := Rn_nx pg73 rfl rfl
theorem sX6_begin_40 : Rn r 73 40 [l0, l1, l2, l3, l4, l5, l6] [vI x0] h Q ↔ Rn r 73 41 [l0, l1, some (vI x0), l3, l4, l5, l6] [] h Q := Rn_nx pg73 rfl rfl
theorem sX6_begin_41 : Rn r 73 41 [some (vR z), l1, l2, l3, l4, l5, l6] [] h Q ↔ Rn r 73 42 [some (vR z), l1, l2, l3, l4, l5, l6] [vR z] h Q := Rn_nx pg73 rfl rfl
theorem sX6_begin_42 (hk : hK h a0 = 15) : Rn r 73 42 [l0, l1, l2, l3, l4, l5, l6] [vR (some a0)] h Q ↔ Rn r 73 45 [l0, l1, l2, l3, l4, l5, l6] [vR (hR h a0 20)] h Q := Rn_nx pg73 rfl (if_pos ⟨(hk ▸ Nat.le_refl _), (hk ▸ Nat.le_refl _)⟩)
theorem sX6_begin_45 : Rn r 73 45 [l0, some (vI x), l2, l3, l4, l5, l6] [vR z0] h Q ↔ Rn r 73 46 [l0, some (vI x), l2, l3, l4, l5, l6] [vI x, vR z0] h Q := Rn_nx pg73 rfl rfl
theorem sX6_begin_46 (hk : 40 ≤ hK h a1) (hk2 : hK h a1 ≤ 41) (hx : ¬ (x0 < 0 ∨ hL h a1 ≤ x0.toNatClampNeg)) : Rn r 73 46 [l0, l1, l2, l3, l4, l5, l6] [vI x0, vR (some a1)] h Q ↔ Rn r 73 47 [l0, l1, l2, l3, l4, l5, l6] [vI (hI h a1 x0.toNatClampNeg)] h Q := Rn_nx pg73 rfl ((if_pos ⟨hk, hk2⟩).trans (if_neg hx))
theorem sX6_begin_47 : Rn r 73 47 [l0, l1, l2, l3, l4, l5, l6] [vI x0] h Q ↔ Rn r 73 (if x0 = 1 then 104 else if x0 = 2 then 180 else if x0 = 3 then 227 else if x0 = 4 then 292 else if x0 = 5 then 337 else if x0 = 6 then 397 else if x0 = 7 then 359 else if x0 = 8 then 389 else if x0 = 9 then 397 else if x0 = 10 then 410 else if x0 = 11 then 397 else 410) [l0, l1, l2, l3, l4, l5, l6] [] h Q := Rn_nx pg73 rfl rfl
theorem sX6_begin_104 : Rn r 73 104 [some (vR z), l1, l2, l3, l4, l5, l6] [] h Q ↔ Rn r 73 105 [some (vR z), l1, l2, l3, l4, l5, l6] [vR z] h Q := Rn_nx pg73 rfl rfl
theorem sX6_begin_105 : Rn r 73 105 [some (vR z), l1, l2, l3, l4, l5, l6] [vR z0] h Q ↔ Rn r 73 106 [some (vR z), l1, l2, l3, l4, l5, l6] [vR z, vR z0] h Q := Rn_nx pg73 rfl rfl
theorem sX6_begin_106 (hk : hK h a0 = 15) : Rn r 73 106 [l0, l1, l2, l3, l4, l5, l6] [vR (some a0), vR z1] h Q ↔ Rn r 73 109 [l0, l1, l2, l3, l4, l5, l6] [vR (hR h a0 25), vR z1] h Q := Rn_nx pg73 rfl (if_pos ⟨(hk ▸ Nat.le_refl _), (hk ▸ Nat.le_refl _)⟩)
theorem sX6_begin_109 : Rn r 73 109 [l0, some (vI x), l2, l3, l4, l5, l6] [vR z0, vR z1] h Q ↔ Rn r 73 110 [l0, some (vI x), l2, l3, l4, l5, l6] [vI x, vR z0, vR z1] h Q := Rn_nx pg73 rfl rfl
theorem sX6_begin_110 (hk : hK h a1 = 42) (hx : ¬ (x0 < 0 ∨ hL h a1 ≤ x0.toNatClampNeg)) : Rn r 73 110 [l0, l1, l2, l3, l4, l5, l6] [vI x0, vR (some a1), vR z2] h Q ↔ Rn r 73 111 [l0, l1, l2, l3, l4, l5, l6] [vL (hJ h a1 x0.toNatClampNeg), vR z2] h Q := Rn_nx pg73 rfl ((if_pos ⟨(hk ▸ Nat.le_refl _), (hk ▸ Nat.le_refl _)⟩).trans (if_neg hx))
theorem sX6_begin_111 (hk : hK h a1 = 15) : Rn r 73 111 [l0, l1, l2, l3, l4, l5, l6] [vL y0, vR (some a1)] h Q ↔ Cl r 53 [vR (some a1), vL y0] h (Kt r 73 114 [l0, l1, l2, l3, l4, l5, l6] [] Q) := Rn_call pg73 rfl (by simp only [am_exec, am_inv, am_pop, am_lk, hk]; rfl) pg53 rfl rfl rfl
theorem sX6_begin_114 : Rn r 73 114 [l0, l1, l2, l3, l4, l5, l6] [vI x0] h Q ↔ Rn r 73 115 [l0, l1, l2, some (vI x0), l4, l5, l6] [] h Q := Rn_nx pg73 rfl rfl
theorem sX6_begin_115 : Rn r 73 115 [l0, l1, l2, some (vI x), l4, l5, l6] [] h Q ↔ Rn r 73 116 [l0, l1, l2, some (vI x), l4, l5, l6] [vI x] h Q := Rn_nx pg73 rfl rfl
theorem sX6_begin_116 : Rn r 73 116 [l0, l1, l2, l3, l4, l5, l6] [vI x0] h Q ↔ Rn r 73 117 [l0, l1, l2, l3, l4, l5, l6] [vI (-1), vI x0] h Q := Rn_nx pg73 rfl rfl
theorem sX6_begin_117 : Rn r 73 117 [l0, l1, l2, l3, l4, l5, l6] [vI x0, vI x1] h Q ↔ if x1 ≠ x0 then Rn r 73 123 [l0, l1, l2, l3, l4, l5, l6] [] h Q else Rn r 73 120 [l0, l1, l2, l3, l4, l5, l6] [] h Q := Rn_if pg73 rfl rfl rfl
theorem sX6_begin_120 : Rn r 73 120 [l0, l1, l2, l3, l4, l5, l6] [] h Q ↔ Rn r 73 410 [l0, l1, l2, l3, l4, l5, l6] [] h Q := Rn_nx pg73 rfl rfl
theorem sX6_begin_123 : Rn r 73 123 [some (vR z), l1, l2, l3, l4, l5, l6] [] h Q ↔ Rn r 73 124 [some (vR z), l1, l2, l3, l4, l5, l6] [vR z] h Q := Rn_nx pg73 rfl rfl
theorem sX6_begin_124 (hk : hK h a0 = 15) : Rn r 73 124 [l0, l1, l2, l3, l4, l5, l6] [vR (some a0)] h Q ↔ Rn r 73 127 [l0, l1, l2, l3, l4, l5, l6] [vR (hR h a0 27)] h Q := Rn_nx pg73 rfl (if_pos ⟨(hk ▸ Nat.le_refl _), (hk ▸ Nat.le_refl _)⟩)
theorem sX6_begin_127 : Rn r 73 127 [l0, some (vI x), l2, l3, l4, l5, l6] [vR z0] h Q ↔ Rn r 73 128 [l0, some (vI x), l2, l3, l4, l5, l6] [vI x, vR z0] h Q := Rn_nx pg73 rfl rfl
theorem sX6_begin_128 (hk : 40 ≤ hK h a1) (hk2 : hK h a1 ≤ 41) (hx : ¬ (x0 < 0 ∨ hL h a1 ≤ x0.toNatClampNeg)) : Rn r 73 128 [l0, l1, l2, l3, l4, l5, l6] [vI x0, vR (some a1)] h Q ↔ Rn r 73 129 [l0, l1, l2, l3, l4, l5, l6] [vI (hI h a1 x0.toNatClampNeg)] h Q := Rn_nx pg73 rfl ((if_pos ⟨hk, hk2⟩).trans (if_neg hx))
theorem sX6_begin_129 : Rn r 73 129 [l0, l1, l2, l3, l4, l5, l6] [vI x0] h Q ↔ Rn r 73 130 [l0, l1, l2, l3, l4, l5, l6] [vI (-1), vI x0] h Q := Rn_nx pg73 rfl rfl
theorem sX6_begin_130 : Rn r 73 130 [l0, l1, l2, l3, l4, l5, l6] [vI x0, vI x1] h Q ↔ if x1 = x0 then Rn r 73 172 [l0, l1, l2, l3, l4, l5, l6] [] h Q else Rn r 73 133 [l0, l1, l2, l3, l4, l5, l6] [] h Q := Rn_if pg73 rfl rfl rfl
theorem sX6_begin_133 : Rn r 73 133 [some (vR z), l1, l2, l3, l4, l5, l6] [] h Q ↔ Rn r 73 134 [some (vR z), l1, l2, l3, l4, l5, l6] [vR z] h Q := Rn_nx pg73 rfl rfl
theorem sX6_begin_134 (hk : hK h a0 = 15) : Rn r 73 134 [l0, l1, l2, l3, l4, l5, l6] [vR (some a0)] h Q ↔ Rn r 73 137 [l0, l1, l2, l3, l4, l5, l6] [vR (hR h a0 14)] h Q := Rn_nx pg73 rfl (if_pos ⟨(hk ▸ Nat.le_refl _), (hk ▸ Nat.le_refl _)⟩)
theorem sX6_begin_137 : Rn r 73 137 [some (vR z), l1, l2, l3, l4, l5, l6] [vR z0] h Q ↔ Rn r 73 138 [some (vR z), l1, l2, l3, l4, l5, l6] [vR z, vR z0] h Q := Rn_nx pg73 rfl rfl
theorem sX6_begin_138 (hk : hK h a0 = 15) : Rn r 73 138 [l0, l1, l2, l3, l4, l5, l6] [vR (some a0), vR z1] h Q ↔ Rn r 73 141 [l0, l1, l2, l3, l4, l5, l6] [vI (hI h a0 2), vR z1] h Q := Rn_nx pg73 rfl (if_pos ⟨(hk ▸ Nat.le_refl _), (hk ▸ Nat.le_refl _)⟩)
theorem sX6_begin_141 : Rn r 73 141 [l0, l1, l2, l3, l4, l5, l6] [vI x0, vR z1] h Q ↔ Rn r 73 143 [l0, l1, l2, l3, l4, l5, l6] [vI 12, vI x0, vR z1] h Q := Rn_nx pg73 rfl rfl
theorem sX6_begin_143 : Rn r 73 143 [l0, l1, l2, l3, l4, l5, l6] [vI x0, vI x1, vR z2] h Q ↔ Rn r 73 144 [l0, l1, l2, l3, l4, l5, l6] [vI (x1 * x0), vR z2] h Q := Rn_nx pg73 rfl rfl
theorem sX6_begin_144 : Rn r 73 144 [l0, l1, l2, some (vI x), l4, l5, l6] [vI x0, vR z1] h Q ↔ Rn r 73 145 [l0, l1, l2, some (vI x), l4, l5, l6] [vI x, vI x0, vR z1] h Q := Rn_nx pg73 rfl rfl
theorem sX6_begin_145 : Rn r 73 145 [l0, l1, l2, l3, l4, l5, l6] [vI x0, vI x1, vR z2] h Q ↔ Rn r 73 146 [l0, l1, l2, l3, l4, l5, l6] [vI (x1 + x0), vR z2] h Q := Rn_nx pg73 rfl rfl
theorem sX6_begin_146 (hk : 43 ≤ hK h a1) (hk2 : hK h a1 ≤ 45) (hx : ¬ (x0 < 0 ∨ hL h a1 ≤ x0.toNatClampNeg)) : Rn r 73 146 [l0, l1, l2, l3, l4, l5, l6] [vI x0, vR (some a1)] h Q ↔ Rn r 73 147 [l0, l1, l2, l3, l4, l5, l6] [vI (hI h a1 x0.toNatClampNeg)] h Q := Rn_nx pg73 rfl ((if_pos ⟨hk, hk2⟩).trans (if_neg hx))
theorem sX6_begin_147 : Rn r 73 147 [l0, l1, l2, l3, l4, l5, l6] [vI x0] h Q ↔ if x0 = 0 then Rn r 73 172 [l0, l1, l2, l3, l4, l5, l6] [] h Q else Rn r 73 150 [l0, l1, l2, l3, l4, l5, l6] [] h Q := Rn_if pg73 rfl rfl rfl
theorem sX6_begin_150 : Rn r 73 150 [some (vR z), l1, l2, l3, l4, l5, l6] [] h Q ↔ Rn r 73 151 [some (vR z), l1, l2, l3, l4, l5, l6] [vR z] h Q := Rn_nx pg73 rfl rfl
theorem sX6_begin_151 : Rn r 73 151 [l0, l1, l2, l3, l4, l5, l6] [vR z0] h Q ↔ Rn r 73 152 [l0, l1, l2, l3, l4, l5, l6] [vI 2, vR z0] h Q := Rn_nx pg73 rfl rfl
theorem sX6_begin_152 (hk : hK h a1 = 15) : Rn r 73 152 [l0, l1, l2, l3, l4, l5, l6] [vI x0, vR (some a1)] h Q ↔ Cl r 108 [vR (some a1), vI x0] h (Kt r 73 155 [l0, l1, l2, l3, l4, l5, l6] [] Q) := Rn_call pg73 rfl (by simp only [am_exec, am_inv, am_pop, am_lk, hk]; rfl) pg108 rfl rfl rfl
theorem sX6_begin_155 : Rn r 73 155 [l0, l1, l2, l3, l4, l5, l6] [vI x0] h Q ↔ Rn r 73 156 [l0, l1, l2, l3, l4, l5, l6] [vI 1, vI x0] h Q := Rn_nx pg73 rfl rfl
theorem sX6_begin_156 : Rn r 73 156 [l0, l1, l2, l3, l4, l5, l6] [vI x0, vI x1] h Q ↔ if x1 ≠ x0 then Rn r 73 172 [l0, l1, l2, l3, l4, l5, l6] [] h Q else Rn r 73 159 [l0, l1, l2, l3, l4, l5, l6] [] h Q := Rn_if pg73 rfl rfl rfl
theorem sX6_begin_159 : Rn r 73 159 [some (vR z), l1, l2, l3, l4, l5, l6] [] h Q ↔ Rn r 73 160 [some (vR z), l1, l2, l3, l4, l5, l6] [vR z] h Q := Rn_nx pg73 rfl rfl
theorem sX6_begin_160 : Rn r 73 160 [some (vR z), l1, l2, l3, l4, l5, l6] [vR z0] h Q ↔ Rn r 73 161 [some (vR z), l1, l2, l3, l4, l5, l6] [vR z, vR z0] h Q := Rn_nx pg73 rfl rfl
theorem sX6_begin_161 (hk : hK h a0 = 15) : Rn r 73 161 [l0, l1, l2, l3, l4, l5, l6] [vR (some a0), vR z1] h Q ↔ Rn r 73 164 [l0, l1, l2, l3, l4, l5, l6] [vR (hR h a0 27), vR z1] h Q := Rn_nx pg73 rfl (if_pos ⟨(hk ▸ Nat.le_refl _), (hk ▸ Nat.le_refl _)⟩)
theorem sX6_begin_164 : Rn r 73 164 [l0, some (vI x), l2, l3, l4, l5, l6] [vR z0, vR z1] h Q ↔ Rn r 73 165 [l0, some (vI x), l2, l3, l4, l5, l6] [vI x, vR z0, vR z1] h Q := Rn_nx pg73 rfl rfl
theorem sX6_begin_165 (hk : 40 ≤ hK h a1) (hk2 : hK h a1 ≤ 41) (hx : ¬ (x0 < 0 ∨ hL h a1 ≤ x0.toNatClampNeg)) : Rn r 73 165 [l0, l1, l2, l3, l4, l5, l6] [vI x0, vR (some a1), vR z2] h Q ↔ Rn r 73 166 [l0, l1, l2, l3, l4, l5, l6] [vI (hI h a1 x0.toNatClampNeg), vR z2] h Q := Rn_nx pg73 rfl ((if_pos ⟨hk, hk2⟩).trans (if_neg hx))
theorem sX6_begin_166 (hk : hK h a1 = 15) : Rn r 73 166 [l0, l1, l2, l3, l4, l5, l6] [vI x0, vR (some a1)] h Q ↔ Cl r 71 [vR (some a1), vI x0] h (Kt r 73 169 [l0, l1, l2, l3, l4, l5, l6] [] Q) := Rn_call pg73 rfl (by simp only [am_exec, am_inv, am_pop, am_lk, hk]; rfl) pg71 rfl rfl rfl
theorem sX6_begin_169 : Rn r 73 169 [l0, l1, l2, l3, l4, l5, l6] [] h Q ↔ Rn r 73 410 [l0, l1, l2, l3, l4, l5, l6] [] h Q := Rn_nx pg73 rfl rfl
theorem sX6_begin_172 : Rn r 73 172 [some (vR z), l1, l2, l3, l4, l5, l6] [] h Q ↔ Rn r 73 173 [some (vR z), l1, l2, l3, l4, l5, l6] [vR z] h Q := Rn_nx pg73 rfl rfl
theorem sX6_begin_173 : Rn r 73 173 [l0, l1, l2, some (vI x), l4, l5, l6] [vR z0] h Q ↔ Rn r 73 174 [l0, l1, l2, some (vI x), l4, l5, l6] [vI x, vR z0] h Q := Rn_nx pg73 rfl rfl
theorem sX6_begin_174 (hk : hK h a1 = 15) : Rn r 73 174 [l0, l1, l2, l3, l4, l5, l6] [vI x0, vR (some a1)] h Q ↔ Cl r 109 [vR (some a1), vI x0] h (Kt r 73 177 [l0, l1, l2, l3, l4, l5, l6] [] Q) := Rn_call pg73 rfl (by simp only [am_exec, am_inv, am_pop, am_lk, hk]; rfl) pg109 rfl rfl rfl
theorem sX6_begin_177 : Rn r 73 177 [l0, l1, l2, l3, l4, l5, l6] [] h Q ↔ Rn r 73 410 [l0, l1, l2, l3, l4, l5, l6] [] h Q := Rn_nx pg73 rfl rfl
theorem sX6_begin_180 : Rn r 73 180 [l0, l1, some (vI x), l3, l4, l5, l6] [] h Q ↔ Rn r 73 181 [l0, l1, some (vI x), l3, l4, l5, l6] [vI x] h Q := Rn_nx pg73 rfl rfl
theorem sX6_begin_181 : Rn r 73 181 [l0, l1, l2, l3, l4, l5, l6] [vI x0] h Q ↔ Rn r 73 182 [l0, l1, l2, l3, l4, l5, l6] [vI (-1), vI x0] h Q := Rn_nx pg73 rfl rfl
theorem sX6_begin_182 : Rn r 73 182 [l0, l1, l2, l3, l4, l5, l6] [vI x0, vI x1] h Q ↔ if x1 ≠ x0 then Rn r 73 204 [l0, l1, l2, l3, l4, l5, l6] [] h Q else Rn r 73 185 [l0, l1, l2, l3, l4, l5, l6] [] h Q := Rn_if pg73 rfl rfl rfl
theorem sX6_begin_185 : Rn r 73 185 [some (vR z), l1, l2, l3, l4, l5, l6] [] h Q ↔ Rn r 73 186 [some (vR z), l1, l2, l3, l4, l5, l6] [vR z] h Q := Rn_nx pg73 rfl rfl
theorem sX6_begin_186 : Rn r 73 186 [some (vR z), l1, l2, l3, l4, l5, l6] [vR z0] h Q ↔ Rn r 73 187 [some (vR z), l1, l2, l3, l4, l5, l6] [vR z, vR z0] h Q := Rn_nx pg73 rfl rfl
theorem sX6_begin_187 (hk : hK h a0 = 15) : Rn r 73 187 [l0, l1, l2, l3, l4, l5, l6] [vR (some a0), vR z1] h Q ↔ Rn r 73 190 [l0, l1, l2, l3, l4, l5, l6] [vR (hR h a0 25), vR z1] h Q := Rn_nx pg73 rfl (if_pos ⟨(hk ▸ Nat.le_refl _), (hk ▸ Nat.le_refl _)⟩)
theorem sX6_begin_190 : Rn r 73 190 [l0, some (vI x), l2, l3, l4, l5, l6] [vR z0, vR z1] h Q ↔ Rn r 73 191 [l0, some (vI x), l2, l3, l4, l5, l6] [vI x, vR z0, vR z1] h Q := Rn_nx pg73 rfl rfl
theorem sX6_begin_191 (hk : hK h a1 = 42) (hx : ¬ (x0 < 0 ∨ hL h a1 ≤ x0.toNatClampNeg)) : Rn r 73 191 [l0, l1, l2, l3, l4, l5, l6] [vI x0, vR (some a1), vR z2] h Q ↔ Rn r 73 192 [l0, l1, l2, l3, l4, l5, l6] [vL (hJ h a1 x0.toNatClampNeg), vR z2] h Q := Rn_nx pg73 rfl ((if_pos ⟨(hk ▸ Nat.le_refl _), (hk ▸ Nat.le_refl _)⟩).trans (if_neg hx))
theorem sX6_begin_192 : Rn r 73 192 [some (vR z), l1, l2, l3, l4, l5, l6] [vL y0, vR z1] h Q ↔ Rn r 73 193 [some (vR z), l1, l2, l3, l4, l5, l6] [vR z, vL y0, vR z1] h Q := Rn_nx pg73 rfl rfl
theorem sX6_begin_193 (hk : hK h a0 = 15) : Rn r 73 193 [l0, l1, l2, l3, l4, l5, l6] [vR (some a0), vL y1, vR z2] h Q ↔ Rn r 73 196 [l0, l1, l2, l3, l4, l5, l6] [vR (hR h a0 26), vL y1, vR z2] h Q := Rn_nx pg73 rfl (if_pos ⟨(hk ▸ Nat.le_refl _), (hk ▸ Nat.le_refl _)⟩)
theorem sX6_begin_196 : Rn r 73 196 [l0, some (vI x), l2, l3, l4, l5, l6] [vR z0, vL y1, vR z2] h Q ↔ Rn r 73 197 [l0, some (vI x), l2, l3, l4, l5, l6] [vI x, vR z0, vL y1, vR z2] h Q := Rn_nx pg73 rfl rfl
theorem sX6_begin_197 (hk : 40 ≤ hK h a1) (hk2 : hK h a1 ≤ 41) (hx : ¬ (x0 < 0 ∨ hL h a1 ≤ x0.toNatClampNeg)) : Rn r 73 197 [l0, l1, l2, l3, l4, l5, l6] [vI x0, vR (some a1), vL y2, vR z3] h Q ↔ Rn r 73 198 [l0, l1, l2, l3, l4, l5, l6] [vI (hI h a1 x0.toNatClampNeg), vL y2, vR z3] h Q := Rn_nx pg73 rfl ((if_pos ⟨hk, hk2⟩).trans (if_neg hx))
theorem sX6_begin_198 (hk : hK h a2 = 15) : Rn r 73 198 [l0, l1, l2, l3, l4, l5, l6] [vI x0, vL y1, vR (some a2)] h Q ↔ Cl r 69 [vR (some a2), vL y1, vI x0] h (Kt r 73 201 [l0, l1, l2, l3, l4, l5, l6] [] Q) := Rn_call pg73 rfl (by simp only [am_exec, am_inv, am_pop, am_lk, hk]; rfl) pg69 rfl rfl rfl
theorem sX6_begin_201 : Rn r 73 201 [l0, l1, l2, l3, l4, l5, l6] [vI x0] h Q ↔ Rn r 73 210 [l0, l1, l2, l3, l4, l5, l6] [vI x0] h Q := Rn_nx pg73 rfl rfl
theorem sX6_begin_204 : Rn r 73 204 [some (vR z), l1, l2, l3, l4, l5, l6] [] h Q ↔ Rn r 73 205 [some (vR z), l1, l2, l3, l4, l5, l6] [vR z] h Q := Rn_nx pg73 rfl rfl
theorem sX6_begin_205 (hk : hK h a0 = 15) : Rn r 73 205 [l0, l1, l2, l3, l4, l5, l6] [vR (some a0)] h Q ↔ Rn r 73 208 [l0, l1, l2, l3, l4, l5, l6] [vR (hR h a0 74)] h Q := Rn_nx pg73 rfl (if_pos ⟨(hk ▸ Nat.le_refl _), (hk ▸ Nat.le_refl _)⟩)
theorem sX6_begin_208 : Rn r 73 208 [l0, l1, some (vI x), l3, l4, l5, l6] [vR z0] h Q ↔ Rn r 73 209 [l0, l1, some (vI x), l3, l4, l5, l6] [vI x, vR z0] h Q := Rn_nx pg73 rfl rfl
theorem sX6_begin_209 (hk : 40 ≤ hK h a1) (hk2 : hK h a1 ≤ 41) (hx : ¬ (x0 < 0 ∨ hL h a1 ≤ x0.toNatClampNeg)) : Rn r 73 209 [l0, l1, l2, l3, l4, l5, l6] [vI x0, vR (some a1)] h Q ↔ Rn r 73 210 [l0, l1, l2, l3, l4, l5, l6] [vI (hI h a1 x0.toNatClampNeg)] h Q := Rn_nx pg73 rfl ((if_pos ⟨hk, hk2⟩).trans (if_neg hx))
theorem sX6_begin_210 : Rn r 73 210 [l0, l1, l2, l3, l4, l5, l6] [vI x0] h Q ↔ Rn r 73 212 [l0, l1, l2, l3, some (vI x0), l5, l6] [] h Q := Rn_nx pg73 rfl rfl
theorem sX6_begin_212 : Rn r 73 212 [l0, l1, l2, l3, some (vI x), l5, l6] [] h Q ↔ Rn r 73 214 [l0, l1, l2, l3, some (vI x), l5, l6] [vI x] h Q := Rn_nx pg73 rfl rfl
theorem sX6_begin_214 : Rn r 73 214 [l0, l1, l2, l3, l4, l5, l6] [vI x0] h Q ↔ Rn r 73 215 [l0, l1, l2, l3, l4, l5, l6] [vI (-1), vI x0] h Q := Rn_nx pg73 rfl rfl
theorem sX6_begin_215 : Rn r 73 215 [l0, l1, l2, l3, l4, l5, l6] [vI x0, vI x1] h Q ↔ if x1 = x0 then Rn r 73 410 [l0, l1, l2, l3, l4, l5, l6] [] h Q else Rn r 73 218 [l0, l1, l2, l3, l4, l5, l6] [] h Q := Rn_if pg73 rfl rfl rfl
theorem sX6_begin_218 : Rn r 73 218 [some (vR z), l1, l2, l3, l4, l5, l6] [] h Q ↔ Rn r 73 219 [some (vR z), l1, l2, l3, l4, l5, l6] [vR z] h Q := Rn_nx pg73 rfl rfl
theorem sX6_begin_219 : Rn r 73 219 [l0, l1, l2, l3, some (vI x), l5, l6] [vR z0] h Q ↔ Rn r 73 221 [l0, l1, l2, l3, some (vI x), l5, l6] [vI x, vR z0] h Q := Rn_nx pg73 rfl rfl
theorem sX6_begin_221 (hk : hK h a1 = 15) : Rn r 73 221 [l0, l1, l2, l3, l4, l5, l6] [vI x0, vR (some a1)] h Q ↔ Cl r 110 [vR (some a1), vI x0] h (Kt r 73 224 [l0, l1, l2, l3, l4, l5, l6] [] Q) := Rn_call pg73 rfl (by simp only [am_exec, am_inv, am_pop, am_lk, hk]; rfl) pg110 rfl rfl rfl
theorem sX6_begin_224 : Rn r 73 224 [l0, l1, l2, l3, l4, l5, l6] [] h Q ↔ Rn r 73 410 [l0, l1, l2, l3, l4, l5, l6] [] h Q := Rn_nx pg73 rfl rfl
theorem sX6_begin_227 : Rn r 73 227 [l0, l1, some (vI x), l3, l4, l5, l6] [] h Q ↔ Rn r 73 228 [l0, l1, some (vI x), l3, l4, l5, l6] [vI x] h Q := Rn_nx pg73 rfl rfl
theorem sX6_begin_228 : Rn r 73 228 [l0, l1, l2, l3, l4, l5, l6] [vI x0] h Q ↔ Rn r 73 229 [l0, l1, l2, l3, l4, l5, l6] [vI (-1), vI x0] h Q := Rn_nx pg73 rfl rfl
theorem sX6_begin_229 : Rn r 73 229 [l0, l1, l2, l3, l4, l5, l6] [vI x0, vI x1] h Q ↔ if x1 ≠ x0 then Rn r 73 236 [l0, l1, l2, l3, l4, l5, l6] [] h Q else Rn r 73 232 [l0, l1, l2, l3, l4, l5, l6] [] h Q := Rn_if pg73 rfl rfl rfl
theorem sX6_begin_232 : Rn r 73 232 [l0, l1, l2, l3, l4, l5, l6] [] h Q ↔ Rn r 73 233 [l0, l1, l2, l3, l4, l5, l6] [vI (-1)] h Q := Rn_nx pg73 rfl rfl
theorem sX6_begin_233 : Rn r 73 233 [l0, l1, l2, l3, l4, l5, l6] [vI x0] h Q ↔ Rn r 73 244 [l0, l1, l2, l3, l4, l5, l6] [vI x0] h Q := Rn_nx pg73 rfl rfl
theorem sX6_begin_236 : Rn r 73 236 [some (vR z), l1, l2, l3, l4, l5, l6] [] h Q ↔ Rn r 73 237 [some (vR z), l1, l2, l3, l4, l5, l6] [vR z] h Q := Rn_nx pg73 rfl rfl
theorem sX6_begin_237 (hk : hK h a0 = 15) : Rn r 73 237 [l0, l1, l2, l3, l4, l5, l6] [vR (some a0)] h Q ↔ Rn r 73 240 [l0, l1, l2, l3, l4, l5, l6] [vR (hR h a0 37)] h Q := Rn_nx pg73 rfl (if_pos ⟨(hk ▸ Nat.le_refl _), (hk ▸ Nat.le_refl _)⟩)
theorem sX6_begin_240 : Rn r 73 240 [l0, l1, some (vI x), l3, l4, l5, l6] [vR z0] h Q ↔ Rn r 73 241 [l0, l1, some (vI x), l3, l4, l5, l6] [vI x, vR z0] h Q := Rn_nx pg73 rfl rfl
theorem sX6_begin_241 (hk : 40 ≤ hK h a1) (hk2 : hK h a1 ≤ 41) (hx : ¬ (x0 < 0 ∨ hL h a1 ≤ x0.toNatClampNeg)) : Rn r 73 241 [l0, l1, l2, l3, l4, l5, l6] [vI x0, vR (some a1)] h Q ↔ Rn r 73 242 [l0, l1, l2, l3, l4, l5, l6] [vI (hI h a1 x0.toNatClampNeg)] h Q := Rn_nx pg73 rfl ((if_pos ⟨hk, hk2⟩).trans (if_neg hx))
theorem sX6_begin_242 : Rn r 73 242 [l0, l1, l2, l3, l4, l5, l6] [vI x0] h Q ↔ Rn r 73 243 [l0, l1, l2, l3, l4, l5, l6] [vI 1, vI x0] h Q := Rn_nx pg73 rfl rfl
theorem sX6_begin_243 : Rn r 73 243 [l0, l1, l2, l3, l4, l5, l6] [vI x0, vI x1] h Q ↔ Rn r 73 244 [l0, l1, l2, l3, l4, l5, l6] [vI (x1 - x0)] h Q := Rn_nx pg73 rfl rfl
theorem sX6_begin_244 : Rn r 73 244 [l0, l1, l2, l3, l4, l5, l6] [vI x0] h Q ↔ Rn r 73 246 [l0, l1, l2, l3, l4, some (vI x0), l6] [] h Q := Rn_nx pg73 rfl rfl
theorem sX6_begin_246 : Rn r 73 246 [l0, l1, l2, l3, l4, some (vI x), l6] [] h Q ↔ Rn r 73 248 [l0, l1, l2, l3, l4, some (vI x), l6] [vI x] h Q := Rn_nx pg73 rfl rfl
theorem sX6_begin_248 : Rn r 73 248 [l0, l1, l2, l3, l4, l5, l6] [vI x0] h Q ↔ if x0 < 0 then Rn r 73 289 [l0, l1, l2, l3, l4, l5, l6] [] h Q else Rn r 73 251 [l0, l1, l2, l3, l4, l5, l6] [] h Q := Rn_if pg73 rfl rfl rfl
theorem sX6_begin_251 : Rn r 73 251 [some (vR z), l1, l2, l3, l4, l5, l6] [] h Q ↔ Rn r 73 252 [some (vR z), l1, l2, l3, l4, l5, l6] [vR z] h Q := Rn_nx pg73 rfl rfl
theorem sX6_begin_252 : Rn r 73 252 [l0, l1, some (vI x), l3, l4, l5, l6] [vR z0] h Q ↔ Rn r 73 253 [l0, l1, some (vI x), l3, l4, l5, l6] [vI x, vR z0] h Q := Rn_nx pg73 rfl rfl
theorem sX6_begin_253 : Rn r 73 253 [l0, l1, l2, l3, l4, some (vI x), l6] [vI x0, vR z1] h Q ↔ Rn r 73 255 [l0, l1, l2, l3, l4, some (vI x), l6] [vI x, vI x0, vR z1] h Q := Rn_nx pg73 rfl rfl
theorem sX6_begin_255 (hk : hK h a2 = 15) : Rn r 73 255 [l0, l1, l2, l3, l4, l5, l6] [vI x0, vI x1, vR (some a2)] h Q ↔ Cl r 111 [vR (some a2), vI x1, vI x0] h (Kt r 73 258 [l0, l1, l2, l3, l4, l5, l6] [] Q) := Rn_call pg73 rfl (by simp only [am_exec, am_inv, am_pop, am_lk, hk]; rfl) pg111 rfl rfl rfl
theorem sX6_begin_258 : Rn r 73 258 [l0, l1, l2, l3, l4, l5, l6] [vI x0] h Q ↔ Rn r 73 260 [l0, l1, l2, l3, l4, l5, some (vI x0)] [] h Q := Rn_nx pg73 rfl rfl
theorem sX6_begin_260 : Rn r 73 260 [some (vR z), l1, l2, l3, l4, l5, l6] [] h Q ↔ Rn r 73 261 [some (vR z), l1, l2, l3, l4, l5, l6] [vR z] h Q := Rn_nx pg73 rfl rfl
theorem sX6_begin_261 (hk : hK h a0 = 15) : Rn r 73 261 [l0, l1, l2, l3, l4, l5, l6] [vR (some a0)] h Q ↔ Rn r 73 264 [l0, l1, l2, l3, l4, l5, l6] [vR (hR h a0 74)] h Q := Rn_nx pg73 rfl (if_pos ⟨(hk ▸ Nat.le_refl _), (hk ▸ Nat.le_refl _)⟩)
theorem sX6_begin_264 : Rn r 73 264 [l0, l1, some (vI x), l3, l4, l5, l6] [vR z0] h Q ↔ Rn r 73 265 [l0, l1, some (vI x), l3, l4, l5, l6] [vI x, vR z0] h Q := Rn_nx pg73 rfl rfl
theorem sX6_begin_265 : Rn r 73 265 [l0, l1, l2, l3, l4, l5, some (vI x)] [vI x0, vR z1] h Q ↔ Rn r 73 267 [l0, l1, l2, l3, l4, l5, some (vI x)] [vI x, vI x0, vR z1] h Q := Rn_nx pg73 rfl rfl
theorem sX6_begin_267 : Rn r 73 267 [l0, l1, l2, l3, l4, l5, l6] [vI x0, vI x1, vR z2] h Q ↔ Rn r 73 268 [l0, l1, l2, l3, l4, l5, l6] [vI (-1), vI x0, vI x1, vR z2] h Q := Rn_nx pg73 rfl rfl
theorem sX6_begin_268 : Rn r 73 268 [l0, l1, l2, l3, l4, l5, l6] [vI x0, vI x1, vI x2, vR z3] h Q ↔ if x1 ≠ x0 then Rn r 73 280 [l0, l1, l2, l3, l4, l5, l6] [vI x2, vR z3] h Q else Rn r 73 271 [l0, l1, l2, l3, l4, l5, l6] [vI x2, vR z3] h Q := Rn_if pg73 rfl rfl rfl
theorem sX6_begin_271 : Rn r 73 271 [some (vR z), l1, l2, l3, l4, l5, l6] [vI x0, vR z1] h Q ↔ Rn r 73 272 [some (vR z), l1, l2, l3, l4, l5, l6] [vR z, vI x0, vR z1] h Q := Rn_nx pg73 rfl rfl
theorem sX6_begin_272 (hk : hK h a0 = 15) : Rn r 73 272 [l0, l1, l2, l3, l4, l5, l6] [vR (some a0), vI x1, vR z2] h Q ↔ Rn r 73 275 [l0, l1, l2, l3, l4, l5, l6] [vR (hR h a0 74), vI x1, vR z2] h Q := Rn_nx pg73 rfl (if_pos ⟨(hk ▸ Nat.le_refl _), (hk ▸ Nat.le_refl _)⟩)
theorem sX6_begin_275 : Rn r 73 275 [l0, l1, some (vI x), l3, l4, l5, l6] [vR z0, vI x1, vR z2] h Q ↔ Rn r 73 276 [l0, l1, some (vI x), l3, l4, l5, l6] [vI x, vR z0, vI x1, vR z2] h Q := Rn_nx pg73 rfl rfl
theorem sX6_begin_276 (hk : 40 ≤ hK h a1) (hk2 : hK h a1 ≤ 41) (hx : ¬ (x0 < 0 ∨ hL h a1 ≤ x0.toNatClampNeg)) : Rn r 73 276 [l0, l1, l2, l3, l4, l5, l6] [vI x0, vR (some a1), vI x2, vR z3] h Q ↔ Rn r 73 277 [l0, l1, l2, l3, l4, l5, l6] [vI (hI h a1 x0.toNatClampNeg), vI x2, vR z3] h Q := Rn_nx pg73 rfl ((if_pos ⟨hk, hk2⟩).trans (if_neg hx))
theorem sX6_begin_277 : Rn r 73 277 [l0, l1, l2, l3, l4, l5, l6] [vI x0, vI x1, vR z2] h Q ↔ Rn r 73 282 [l0, l1, l2, l3, l4, l5, l6] [vI x0, vI x1, vR z2] h Q := Rn_nx pg73 rfl rfl
theorem sX6_begin_280 : Rn r 73 280 [l0, l1, l2, l3, l4, l5, some (vI x)] [vI x0, vR z1] h Q ↔ Rn r 73 282 [l0, l1, l2, l3, l4, l5, some (vI x)] [vI x, vI x0, vR z1] h Q := Rn_nx pg73 rfl rfl
theorem sX6_begin_282 (hk : hK h a2 = 40) (hx : ¬ (x1 < 0 ∨ hL h a2 ≤ x1.toNatClampNeg)) : Rn r 73 282 [l0, l1, l2, l3, l4, l5, l6] [vI x0, vI x1, vR (some a2)] h Q ↔ Rn r 73 283 [l0, l1, l2, l3, l4, l5, l6] [] (putI h a2 x1.toNatClampNeg x0) Q := Rn_nx pg73 rfl ((if_pos hk).trans (if_neg hx))
theorem sX6_begin_283 : Rn r 73 283 [l0, l1, l2, l3, l4, some (vI x), l6] [] h Q ↔ Rn r 73 286 [l0, l1, l2, l3, l4, some (vI (x + (-1))), l6] [] h Q := Rn_nx pg73 rfl rfl
theorem sX6_begin_286 : Rn r 73 286 [l0, l1, l2, l3, l4, l5, l6] [] h Q ↔ Rn r 73 246 [l0, l1, l2, l3, l4, l5, l6] [] h Q := Rn_nx pg73 rfl rfl
theorem sX6_begin_289 : Rn r 73 289 [l0, l1, l2, l3, l4, l5, l6] [] h Q ↔ Rn r 73 410 [l0, l1, l2, l3, l4, l5, l6] [] h Q := Rn_nx pg73 rfl rfl
theorem sX6_begin_292 : Rn r 73 292 [some (vR z), l1, l2, l3, l4, l5, l6] [] h Q ↔ Rn r 73 293 [some (vR z), l1, l2, l3, l4, l5, l6] [vR z] h Q := Rn_nx pg73 rfl rfl
theorem sX6_begin_293 : Rn r 73 293 [l0, l1, l2, l3, l4, l5, l6] [vR z0] h Q ↔ Rn r 73 294 [l0, l1, l2, l3, l4, l5, l6] [vI 2, vR z0] h Q := Rn_nx pg73 rfl rfl
theorem sX6_begin_294 (hk : hK h a1 = 15) : Rn r 73 294 [l0, l1, l2, l3, l4, l5, l6] [vI x0, vR (some a1)] h Q ↔ Cl r 108 [vR (some a1), vI x0] h (Kt r 73 297 [l0, l1, l2, l3, l4, l5, l6] [] Q) := Rn_call pg73 rfl (by simp only [am_exec, am_inv, am_pop, am_lk, hk]; rfl) pg108 rfl rfl rfl
theorem sX6_begin_297 : Rn r 73 297 [l0, l1, l2, l3, l4, l5, l6] [vI x0] h Q ↔ Rn r 73 298 [l0, l1, l2, l3, l4, l5, l6] [vI 1, vI x0] h Q := Rn_nx pg73 rfl rfl
theorem sX6_begin_298 : Rn r 73 298 [l0, l1, l2, l3, l4, l5, l6] [vI x0, vI x1] h Q ↔ if x1 ≠ x0 then Rn r 73 314 [l0, l1, l2, l3, l4, l5, l6] [] h Q else Rn r 73 301 [l0, l1, l2, l3, l4, l5, l6] [] h Q := Rn_if pg73 rfl rfl rfl
theorem sX6_begin_301 : Rn r 73 301 [some (vR z), l1, l2, l3, l4, l5, l6] [] h Q ↔ Rn r 73 302 [some (vR z), l1, l2, l3, l4, l5, l6] [vR z] h Q := Rn_nx pg73 rfl rfl
theorem sX6_begin_302 : Rn r 73 302 [some (vR z), l1, l2, l3, l4, l5, l6] [vR z0] h Q ↔ Rn r 73 303 [some (vR z), l1, l2, l3, l4, l5, l6] [vR z, vR z0] h Q := Rn_nx pg73 rfl rfl
theorem sX6_begin_303 (hk : hK h a0 = 15) : Rn r 73 303 [l0, l1, l2, l3, l4, l5, l6] [vR (some a0), vR z1] h Q ↔ Rn r 73 306 [l0, l1, l2, l3, l4, l5, l6] [vR (hR h a0 27), vR z1] h Q := Rn_nx pg73 rfl (if_pos ⟨(hk ▸ Nat.le_refl _), (hk ▸ Nat.le_refl _)⟩)
theorem sX6_begin_306 : Rn r 73 306 [l0, some (vI x), l2, l3, l4, l5, l6] [vR z0, vR z1] h Q ↔ Rn r 73 307 [l0, some (vI x), l2, l3, l4, l5, l6] [vI x, vR z0, vR z1] h Q := Rn_nx pg73 rfl rfl
theorem sX6_begin_307 (hk : 40 ≤ hK h a1) (hk2 : hK h a1 ≤ 41) (hx : ¬ (x0 < 0 ∨ hL h a1 ≤ x0.toNatClampNeg)) : Rn r 73 307 [l0, l1, l2, l3, l4, l5, l6] [vI x0, vR (some a1), vR z2] h Q ↔ Rn r 73 308 [l0, l1, l2, l3, l4, l5, l6] [vI (hI h a1 x0.toNatClampNeg), vR z2] h Q := Rn_nx pg73 rfl ((if_pos ⟨hk, hk2⟩).trans (if_neg hx))
theorem sX6_begin_308 (hk : hK h a1 = 15) : Rn r 73 308 [l0, l1, l2, l3, l4, l5, l6] [vI x0, vR (some a1)] h Q ↔ Cl r 71 [vR (some a1), vI x0] h (Kt r 73 311 [l0, l1, l2, l3, l4, l5, l6] [] Q) := Rn_call pg73 rfl (by simp only [am_exec, am_inv, am_pop, am_lk, hk]; rfl) pg71 rfl rfl rfl
theorem sX6_begin_311 : Rn r 73 311 [l0, l1, l2, l3, l4, l5, l6] [] h Q ↔ Rn r 73 410 [l0, l1, l2, l3, l4, l5, l6] [] h Q := Rn_nx pg73 rfl rfl
theorem sX6_begin_314 : Rn r 73 314 [some (vR z), l1, l2, l3, l4, l5, l6] [] h Q ↔ Rn r 73 315 [some (vR z), l1, l2, l3, l4, l5, l6] [vR z] h Q := Rn_nx pg73 rfl rfl
theorem sX6_begin_315 (hk : hK h a0 = 15) : Rn r 73 315 [l0, l1, l2, l3, l4, l5, l6] [vR (some a0)] h Q ↔ Rn r 73 318 [l0, l1, l2, l3, l4, l5, l6] [vR (hR h a0 28)] h Q := Rn_nx pg73 rfl (if_pos ⟨(hk ▸ Nat.le_refl _), (hk ▸ Nat.le_refl _)⟩)
theorem sX6_begin_318 : Rn r 73 318 [l0, some (vI x), l2, l3, l4, l5, l6] [vR z0] h Q ↔ Rn r 73 319 [l0, some (vI x), l2, l3, l4, l5, l6] [vI x, vR z0] h Q := Rn_nx pg73 rfl rfl
theorem sX6_begin_319 (hk : 40 ≤ hK h a1) (hk2 : hK h a1 ≤ 41) (hx : ¬ (x0 < 0 ∨ hL h a1 ≤ x0.toNatClampNeg)) : Rn r 73 319 [l0, l1, l2, l3, l4, l5, l6] [vI x0, vR (some a1)] h Q ↔ Rn r 73 320 [l0, l1, l2, l3, l4, l5, l6] [vI (hI h a1 x0.toNatClampNeg)] h Q := Rn_nx pg73 rfl ((if_pos ⟨hk, hk2⟩).trans (if_neg hx))
theorem sX6_begin_320 : Rn r 73 320 [l0, l1, l2, l3, l4, l5, l6] [vI x0] h Q ↔ Rn r 73 321 [l0, l1, l2, l3, l4, l5, l6] [vI (-1), vI x0] h Q := Rn_nx pg73 rfl rfl
theorem sX6_begin_321 : Rn r 73 321 [l0, l1, l2, l3, l4, l5, l6] [vI x0, vI x1] h Q ↔ if x1 = x0 then Rn r 73 410 [l0, l1, l2, l3, l4, l5, l6] [] h Q else Rn r 73 324 [l0, l1, l2, l3, l4, l5, l6] [] h Q := Rn_if pg73 rfl rfl rfl
theorem sX6_begin_324 : Rn r 73 324 [some (vR z), l1, l2, l3, l4, l5, l6] [] h Q ↔ Rn r 73 325 [some (vR z), l1, l2, l3, l4, l5, l6] [vR z] h Q := Rn_nx pg73 rfl rfl
theorem sX6_begin_325 : Rn r 73 325 [some (vR z), l1, l2, l3, l4, l5, l6] [vR z0] h Q ↔ Rn r 73 326 [some (vR z), l1, l2, l3, l4, l5, l6] [vR z, vR z0] h Q := Rn_nx pg73 rfl rfl
theorem sX6_begin_326 (hk : hK h a0 = 15) : Rn r 73 326 [l0, l1, l2, l3, l4, l5, l6] [vR (some a0), vR z1] h Q ↔ Rn r 73 329 [l0, l1, l2, l3, l4, l5, l6] [vR (hR h a0 28), vR z1] h Q := Rn_nx pg73 rfl (if_pos ⟨(hk ▸ Nat.le_refl _), (hk ▸ Nat.le_refl _)⟩)
theorem sX6_begin_329 : Rn r 73 329 [l0, some (vI x), l2, l3, l4, l5, l6] [vR z0, vR z1] h Q ↔ Rn r 73 330 [l0, some (vI x), l2, l3, l4, l5, l6] [vI x, vR z0, vR z1] h Q := Rn_nx pg73 rfl rfl
theorem sX6_begin_330 (hk : 40 ≤ hK h a1) (hk2 : hK h a1 ≤ 41) (hx : ¬ (x0 < 0 ∨ hL h a1 ≤ x0.toNatClampNeg)) : Rn r 73 330 [l0, l1, l2, l3, l4, l5, l6] [vI x0, vR (some a1), vR z2] h Q ↔ Rn r 73 331 [l0, l1, l2, l3, l4, l5, l6] [vI (hI h a1 x0.toNatClampNeg), vR z2] h Q := Rn_nx pg73 rfl ((if_pos ⟨hk, hk2⟩).trans (if_neg hx))
theorem sX6_begin_331 (hk : hK h a1 = 15) : Rn r 73 331 [l0, l1, l2, l3, l4, l5, l6] [vI x0, vR (some a1)] h Q ↔ Cl r 71 [vR (some a1), vI x0] h (Kt r 73 334 [l0, l1, l2, l3, l4, l5, l6] [] Q) := Rn_call pg73 rfl (by simp only [am_exec, am_inv, am_pop, am_lk, hk]; rfl) pg71 rfl rfl rfl
theorem sX6_begin_334 : Rn r 73 334 [l0, l1, l2, l3, l4, l5, l6] [] h Q ↔ Rn r 73 410 [l0, l1, l2, l3, l4, l5, l6] [] h Q := Rn_nx pg73 rfl rfl
theorem sX6_begin_337 : Rn r 73 337 [some (vR z), l1, l2, l3, l4, l5, l6] [] h Q ↔ Rn r 73 338 [some (vR z), l1, l2, l3, l4, l5, l6] [vR z] h Q := Rn_nx pg73 rfl rfl
theorem sX6_begin_338 : Rn r 73 338 [l0, l1, l2, l3, l4, l5, l6] [vR z0] h Q ↔ Rn r 73 339 [l0, l1, l2, l3, l4, l5, l6] [vI 2, vR z0] h Q := Rn_nx pg73 rfl rfl
theorem sX6_begin_339 (hk : hK h a1 = 15) : Rn r 73 339 [l0, l1, l2, l3, l4, l5, l6] [vI x0, vR (some a1)] h Q ↔ Cl r 108 [vR (some a1), vI x0] h (Kt r 73 342 [l0, l1, l2, l3, l4, l5, l6] [] Q) := Rn_call pg73 rfl (by simp only [am_exec, am_inv, am_pop, am_lk, hk]; rfl) pg108 rfl rfl rfl
theorem sX6_begin_342 : Rn r 73 342 [l0, l1, l2, l3, l4, l5, l6] [vI x0] h Q ↔ Rn r 73 343 [l0, l1, l2, l3, l4, l5, l6] [vI 1, vI x0] h Q := Rn_nx pg73 rfl rfl
theorem sX6_begin_343 : Rn r 73 343 [l0, l1, l2, l3, l4, l5, l6] [vI x0, vI x1] h Q ↔ if x1 ≠ x0 then Rn r 73 410 [l0, l1, l2, l3, l4, l5, l6] [] h Q else Rn r 73 346 [l0, l1, l2, l3, l4, l5, l6] [] h Q := Rn_if pg73 rfl rfl rfl
theorem sX6_begin_346 : Rn r 73 346 [some (vR z), l1, l2, l3, l4, l5, l6] [] h Q ↔ Rn r 73 347 [some (vR z), l1, l2, l3, l4, l5, l6] [vR z] h Q := Rn_nx pg73 rfl rfl
theorem sX6_begin_347 : Rn r 73 347 [some (vR z), l1, l2, l3, l4, l5, l6] [vR z0] h Q ↔ Rn r 73 348 [some (vR z), l1, l2, l3, l4, l5, l6] [vR z, vR z0] h Q := Rn_nx pg73 rfl rfl
theorem sX6_begin_348 (hk : hK h a0 = 15) : Rn r 73 348 [l0, l1, l2, l3, l4, l5, l6] [vR (some a0), vR z1] h Q ↔ Rn r 73 351 [l0, l1, l2, l3, l4, l5, l6] [vR (hR h a0 27), vR z1] h Q := Rn_nx pg73 rfl (if_pos ⟨(hk ▸ Nat.le_refl _), (hk ▸ Nat.le_refl _)⟩)
theorem sX6_begin_351 : Rn r 73 351 [l0, some (vI x), l2, l3, l4, l5, l6] [vR z0, vR z1] h Q ↔ Rn r 73 352 [l0, some (vI x), l2, l3, l4, l5, l6] [vI x, vR z0, vR z1] h Q := Rn_nx pg73 rfl rfl
theorem sX6_begin_352 (hk : 40 ≤ hK h a1) (hk2 : hK h a1 ≤ 41) (hx : ¬ (x0 < 0 ∨ hL h a1 ≤ x0.toNatClampNeg)) : Rn r 73 352 [l0, l1, l2, l3, l4, l5, l6] [vI x0, vR (some a1), vR z2] h Q ↔ Rn r 73 353 [l0, l1, l2, l3, l4, l5, l6] [vI (hI h a1 x0.toNatClampNeg), vR z2] h Q := Rn_nx pg73 rfl ((if_pos ⟨hk, hk2⟩).trans (if_neg hx))
theorem sX6_begin_353 (hk : hK h a1 = 15) : Rn r 73 353 [l0, l1, l2, l3, l4, l5, l6] [vI x0, vR (some a1)] h Q ↔ Cl r 71 [vR (some a1), vI x0] h (Kt r 73 356 [l0, l1, l2, l3, l4, l5, l6] [] Q) := Rn_call pg73 rfl (by simp only [am_exec, am_inv, am_pop, am_lk, hk]; rfl) pg71 rfl rfl rfl
theorem sX6_begin_356 : Rn r 73 356 [l0, l1, l2, l3, l4, l5, l6] [] h Q ↔ Rn r 73 410 [l0, l1, l2, l3, l4, l5, l6] [] h Q := Rn_nx pg73 rfl rfl
theorem sX6_begin_359 : Rn r 73 359 [some (vR z), l1, l2, l3, l4, l5, l6] [] h Q ↔ Rn r 73 360 [some (vR z), l1, l2, l3, l4, l5, l6] [vR z] h Q := Rn_nx pg73 rfl rfl
theorem sX6_begin_360 : Rn r 73 360 [some (vR z), l1, l2, l3, l4, l5, l6] [vR z0] h Q ↔ Rn r 73 361 [some (vR z), l1, l2, l3, l4, l5, l6] [vR z, vR z0] h Q := Rn_nx pg73 rfl rfl
theorem sX6_begin_361 : Rn r 73 361 [l0, some (vI x), l2, l3, l4, l5, l6] [vR z0, vR z1] h Q ↔ Rn r 73 362 [l0, some (vI x), l2, l3, l4, l5, l6] [vI x, vR z0, vR z1] h Q := Rn_nx pg73 rfl rfl
theorem sX6_begin_362 (hk : hK h a1 = 15) : Rn r 73 362 [l0, l1, l2, l3, l4, l5, l6] [vI x0, vR (some a1), vR z2] h Q ↔ Cl r 112 [vR (some a1), vI x0] h (Kt r 73 365 [l0, l1, l2, l3, l4, l5, l6] [vR z2] Q) := Rn_call pg73 rfl (by simp only [am_exec, am_inv, am_pop, am_lk, hk]; rfl) pg112 rfl rfl rfl
theorem sX6_begin_365 : Rn r 73 365 [l0, l1, l2, l3, l4, l5, l6] [vI x0, vR z1] h Q ↔ Rn r 73 366 [l0, l1, l2, l3, l4, l5, l6] [vI (-1), vI x0, vR z1] h Q := Rn_nx pg73 rfl rfl
theorem sX6_begin_366 : Rn r 73 366 [l0, l1, l2, l3, l4, l5, l6] [vI x0, vI x1, vR z2] h Q ↔ if x1 ≠ x0 then Rn r 73 373 [l0, l1, l2, l3, l4, l5, l6] [vR z2] h Q else Rn r 73 369 [l0, l1, l2, l3, l4, l5, l6] [vR z2] h Q := Rn_if pg73 rfl rfl rfl
theorem sX6_begin_369 : Rn r 73 369 [l0, l1, l2, l3, l4, l5, l6] [vR z0] h Q ↔ Rn r 73 370 [l0, l1, l2, l3, l4, l5, l6] [vI 0, vR z0] h Q := Rn_nx pg73 rfl rfl
theorem sX6_begin_370 : Rn r 73 370 [l0, l1, l2, l3, l4, l5, l6] [vI x0, vR z1] h Q ↔ Rn r 73 374 [l0, l1, l2, l3, l4, l5, l6] [vI x0, vR z1] h Q := Rn_nx pg73 rfl rfl
theorem sX6_begin_373 : Rn r 73 373 [l0, l1, l2, l3, l4, l5, l6] [vR z0] h Q ↔ Rn r 73 374 [l0, l1, l2, l3, l4, l5, l6] [vI 2, vR z0] h Q := Rn_nx pg73 rfl rfl
theorem sX6_begin_374 (hk : hK h a1 = 15) : Rn r 73 374 [l0, l1, l2, l3, l4, l5, l6] [vI x0, vR (some a1)] h Q ↔ Rn r 73 377 [l0, l1, l2, l3, l4, l5, l6] [] (putI h a1 66 x0) Q := Rn_nx pg73 rfl ((if_pos ⟨(hk ▸ Nat.le_refl _), (hk ▸ Nat.le_refl _)⟩).trans rfl)
theorem sX6_begin_377 : Rn r 73 377 [some (vR z), l1, l2, l3, l4, l5, l6] [] h Q ↔ Rn r 73 378 [some (vR z), l1, l2, l3, l4, l5, l6] [vR z] h Q := Rn_nx pg73 rfl rfl
theorem sX6_begin_378 : Rn r 73 378 [some (vR z), l1, l2, l3, l4, l5, l6] [vR z0] h Q ↔ Rn r 73 379 [some (vR z), l1, l2, l3, l4, l5, l6] [vR z, vR z0] h Q := Rn_nx pg73 rfl rfl
theorem sX6_begin_379 : Rn r 73 379 [l0, some (vI x), l2, l3, l4, l5, l6] [vR z0, vR z1] h Q ↔ Rn r 73 380 [l0, some (vI x), l2, l3, l4, l5, l6] [vI x, vR z0, vR z1] h Q := Rn_nx pg73 rfl rfl
theorem sX6_begin_380 (hk : hK h a1 = 15) : Rn r 73 380 [l0, l1, l2, l3, l4, l5, l6] [vI x0, vR (some a1), vR z2] h Q ↔ Cl r 112 [vR (some a1), vI x0] h (Kt r 73 383 [l0, l1, l2, l3, l4, l5, l6] [vR z2] Q) := Rn_call pg73 rfl (by simp only [am_exec, am_inv, am_pop, am_lk, hk]; rfl) pg112 rfl rfl rfl
theorem sX6_begin_383 (hk : hK h a1 = 15) : Rn r 73 383 [l0, l1, l2, l3, l4, l5, l6] [vI x0, vR (some a1)] h Q ↔ Rn r 73 386 [l0, l1, l2, l3, l4, l5, l6] [] (putI h a1 67 x0) Q := Rn_nx pg73 rfl ((if_pos ⟨(hk ▸ Nat.le_refl _), (hk ▸ Nat.le_refl _)⟩).trans rfl)
theorem sX6_begin_386 : Rn r 73 386 [l0, l1, l2, l3, l4, l5, l6] [] h Q ↔ Rn r 73 410 [l0, l1, l2, l3, l4, l5, l6] [] h Q := Rn_nx pg73 rfl rfl
theorem sX6_begin_389 : Rn r 73 389 [some (vR z), l1, l2, l3, l4, l5, l6] [] h Q ↔ Rn r 73 390 [some (vR z), l1, l2, l3, l4, l5, l6] [vR z] h Q := Rn_nx pg73 rfl rfl
theorem sX6_begin_390 : Rn r 73 390 [l0, l1, l2, l3, l4, l5, l6] [vR z0] h Q ↔ Rn r 73 391 [l0, l1, l2, l3, l4, l5, l6] [vI 3, vR z0] h Q := Rn_nx pg73 rfl rfl
theorem sX6_begin_391 (hk : hK h a1 = 15) : Rn r 73 391 [l0, l1, l2, l3, l4, l5, l6] [vI x0, vR (some a1)] h Q ↔ Rn r 73 394 [l0, l1, l2, l3, l4, l5, l6] [] (putI h a1 66 x0) Q := Rn_nx pg73 rfl ((if_pos ⟨(hk ▸ Nat.le_refl _), (hk ▸ Nat.le_refl _)⟩).trans rfl)
theorem sX6_begin_394 : Rn r 73 394 [l0, l1, l2, l3, l4, l5, l6] [] h Q ↔ Rn r 73 410 [l0, l1, l2, l3, l4, l5, l6] [] h Q := Rn_nx pg73 rfl rfl
theorem sX6_begin_397 : Rn r 73 397 [some (vR z), l1, l2, l3, l4, l5, l6] [] h Q ↔ Rn r 73 398 [some (vR z), l1, l2, l3, l4, l5, l6] [vR z] h Q := Rn_nx pg73 rfl rfl
theorem sX6_begin_398 : Rn r 73 398 [some (vR z), l1, l2, l3, l4, l5, l6] [vR z0] h Q ↔ Rn r 73 399 [some (vR z), l1, l2, l3, l4, l5, l6] [vR z, vR z0] h Q := Rn_nx pg73 rfl rfl
theorem sX6_begin_399 (hk : hK h a0 = 15) : Rn r 73 399 [l0, l1, l2, l3, l4, l5, l6] [vR (some a0), vR z1] h Q ↔ Rn r 73 402 [l0, l1, l2, l3, l4, l5, l6] [vR (hR h a0 27), vR z1] h Q := Rn_nx pg73 rfl (if_pos ⟨(hk ▸ Nat.le_refl _), (hk ▸ Nat.le_refl _)⟩)
theorem sX6_begin_402 : Rn r 73 402 [l0, some (vI x), l2, l3, l4, l5, l6] [vR z0, vR z1] h Q ↔ Rn r 73 403 [l0, some (vI x), l2, l3, l4, l5, l6] [vI x, vR z0, vR z1] h Q := Rn_nx pg73 rfl rfl
theorem sX6_begin_403 (hk : 40 ≤ hK h a1) (hk2 : hK h a1 ≤ 41) (hx : ¬ (x0 < 0 ∨ hL h a1 ≤ x0.toNatClampNeg)) : Rn r 73 403 [l0, l1, l2, l3, l4, l5, l6] [vI x0, vR (some a1), vR z2] h Q ↔ Rn r 73 404 [l0, l1, l2, l3, l4, l5, l6] [vI (hI h a1 x0.toNatClampNeg), vR z2] h Q := Rn_nx pg73 rfl ((if_pos ⟨hk, hk2⟩).trans (if_neg hx))
theorem sX6_begin_404 (hk : hK h a1 = 15) : Rn r 73 404 [l0, l1, l2, l3, l4, l5, l6] [vI x0, vR (some a1)] h Q ↔ Cl r 71 [vR (some a1), vI x0] h (Kt r 73 407 [l0, l1, l2, l3, l4, l5, l6] [] Q) := Rn_call pg73 rfl (by simp only [am_exec, am_inv, am_pop, am_lk, hk]; rfl) pg71 rfl rfl rfl
theorem sX6_begin_407 : Rn r 73 407 [l0, l1, l2, l3, l4, l5, l6] [] h Q ↔ Rn r 73 410 [l0, l1, l2, l3, l4, l5, l6] [] h Q := Rn_nx pg73 rfl rfl
theorem sX6_begin_410 : Rn r 73 410 [l0, l1, l2, l3, l4, l5, l6] [] h Q ↔ Q (Sum.inl none) h := Rn_end pg73 rfl rfl
/-! 74 ThrowRulesModel.leave(II)V -/
theorem eX6_leave : Cl r 74 [vR z0, vI x1, vI x2] h Q ↔ Rn r 74 0 [some (vR z0), some (vI x1), some (vI x2), none, none, none] [] h Q := Cl_in pg74 rfl
theorem sX6_leave_0 : Rn r 74 0 [some (vR z), l1, l2, l3, l4, l5] [] h Q ↔ Rn r 74 1 [some (vR z), l1, l2, l3, l4, l5] [vR z] h Q := Rn_nx pg74 rfl rfl
theorem sX6_leave_1 (hk : hK h a0 = 15) : Rn r 74 1 [l0, l1, l2, l3, l4, l5] [vR (some a0)] h Q ↔ Rn r 74 4 [l0, l1, l2, l3, l4, l5] [vR (hR h a0 42)] h Q := Rn_nx pg74 rfl (if_pos ⟨(hk ▸ Nat.le_refl _), (hk ▸ Nat.le_refl _)⟩)
theorem sX6_leave_4 : Rn r 74 4 [l0, some (vI x), l2, l3, l4, l5] [vR z0] h Q ↔ Rn r 74 5 [l0, some (vI x), l2, l3, l4, l5] [vI x, vR z0] h Q := Rn_nx pg74 rfl rfl
theorem sX6_leave_5 (hk : 40 ≤ hK h a1) (hk2 : hK h a1 ≤ 41) (hx : ¬ (x0 < 0 ∨ hL h a1 ≤ x0.toNatClampNeg)) : Rn r 74 5 [l0, l1, l2, l3, l4, l5] [vI x0, vR (some a1)] h Q ↔ Rn r 74 6 [l0, l1, l2, l3, l4, l5] [vI (hI h a1 x0.toNatClampNeg)] h Q := Rn_nx pg74 rfl ((if_pos ⟨hk, hk2⟩).trans (if_neg hx))
theorem sX6_leave_6 : Rn r 74 6 [l0, l1, l2, l3, l4, l5] [vI x0] h Q ↔ Rn r 74 7 [l0, l1, l2, some (vI x0), l4, l5] [] h Q := Rn_nx pg74 rfl rfl
theorem sX6_leave_7 : Rn r 74 7 [some (vR z), l1, l2, l3, l4, l5] [] h Q ↔ Rn r 74 8 [some (vR z), l1, l2, l3, l4, l5] [vR z] h Q := Rn_nx pg74 rfl rfl
theorem sX6_leave_8 (hk : hK h a0 = 15) : Rn r 74 8 [l0, l1, l2, l3, l4, l5] [vR (some a0)] h Q ↔ Rn r 74 11 [l0, l1, l2, l3, l4, l5] [vR (hR h a0 41)] h Q := Rn_nx pg74 rfl (if_pos ⟨(hk ▸ Nat.le_refl _), (hk ▸ Nat.le_refl _)⟩)
theorem sX6_leave_11 : Rn r 74 11 [l0, some (vI x), l2, l3, l4, l5] [vR z0] h Q ↔ Rn r 74 12 [l0, some (vI x), l2, l3, l4, l5] [vI x, vR z0] h Q := Rn_nx pg74 rfl rfl
theorem sX6_leave_12 (hk : 40 ≤ hK h a1) (hk2 : hK h a1 ≤ 41) (hx : ¬ (x0 < 0 ∨ hL h a1 ≤ x0.toNatClampNeg)) : Rn r 74 12 [l0, l1, l2, l3, l4, l5] [vI x0, vR (some a1)] h Q ↔ Rn r 74 13 [l0, l1, l2, l3, l4, l5] [vI (hI h a1 x0.toNatClampNeg)] h Q := Rn_nx pg74 rfl ((if_pos ⟨hk, hk2⟩).trans (if_neg hx))
theorem sX6_leave_13 : Rn r 74 13 [l0, l1, l2, l3, l4, l5] [vI x0] h Q ↔ Rn r 74 (if x0 = 1 then 56 else if x0 = 2 then 322 else if x0 = 3 then 322 else if x0 = 4 then 100 else if x0 = 5 then 171 else if x0 = 6 then 284 else if x0 = 7 then 292 else 322) [l0, l1, l2, l3, l4, l5] [] h Q := Rn_nx pg74 rfl rfl
theorem sX6_leave_56 : Rn r 74 56 [some (vR z), l1, l2, l3, l4, l5] [] h Q ↔ Rn r 74 57 [some (vR z), l1, l2, l3, l4, l5] [vR z] h Q := Rn_nx pg74 rfl rfl
theorem sX6_leave_57 : Rn r 74 57 [some (vR z), l1, l2, l3, l4, l5] [vR z0] h Q ↔ Rn r 74 58 [some (vR z), l1, l2, l3, l4, l5] [vR z, vR z0] h Q := Rn_nx pg74 rfl rfl
theorem sX6_leave_58 (hk : hK h a0 = 15) : Rn r 74 58 [l0, l1, l2, l3, l4, l5] [vR (some a0), vR z1] h Q ↔ Rn r 74 61 [l0, l1, l2, l3, l4, l5] [vI (hI h a0 66), vR z1] h Q := Rn_nx pg74 rfl (if_pos ⟨(hk ▸ Nat.le_refl _), (hk ▸ Nat.le_refl _)⟩)
theorem sX6_leave_61 : Rn r 74 61 [l0, l1, l2, l3, l4, l5] [vI x0, vR z1] h Q ↔ Rn r 74 62 [l0, l1, l2, l3, l4, l5] [vI 3, vI x0, vR z1] h Q := Rn_nx pg74 rfl rfl
theorem sX6_leave_62 : Rn r 74 62 [l0, l1, l2, l3, l4, l5] [vI x0, vI x1, vR z2] h Q ↔ if x1 ≠ x0 then Rn r 74 69 [l0, l1, l2, l3, l4, l5] [vR z2] h Q else Rn r 74 65 [l0, l1, l2, l3, l4, l5] [vR z2] h Q := Rn_if pg74 rfl rfl rfl
theorem sX6_leave_65 : Rn r 74 65 [l0, l1, l2, l3, l4, l5] [vR z0] h Q ↔ Rn r 74 66 [l0, l1, l2, l3, l4, l5] [vI 0, vR z0] h Q := Rn_nx pg74 rfl rfl
theorem sX6_leave_66 : Rn r 74 66 [l0, l1, l2, l3, l4, l5] [vI x0, vR z1] h Q ↔ Rn r 74 73 [l0, l1, l2, l3, l4, l5] [vI x0, vR z1] h Q := Rn_nx pg74 rfl rfl
theorem sX6_leave_69 : Rn r 74 69 [some (vR z), l1, l2, l3, l4, l5] [vR z0] h Q ↔ Rn r 74 70 [some (vR z), l1, l2, l3, l4, l5] [vR z, vR z0] h Q := Rn_nx pg74 rfl rfl
theorem sX6_leave_70 (hk : hK h a0 = 15) : Rn r 74 70 [l0, l1, l2, l3, l4, l5] [vR (some a0), vR z1] h Q ↔ Rn r 74 73 [l0, l1, l2, l3, l4, l5] [vI (hI h a0 66), vR z1] h Q := Rn_nx pg74 rfl (if_pos ⟨(hk ▸ Nat.le_refl _), (hk ▸ Nat.le_refl _)⟩)
theorem sX6_leave_73 (hk : hK h a1 = 15) : Rn r 74 73 [l0, l1, l2, l3, l4, l5] [vI x0, vR (some a1)] h Q ↔ Rn r 74 76 [l0, l1, l2, l3, l4, l5] [] (putI h a1 66 x0) Q := Rn_nx pg74 rfl ((if_pos ⟨(hk ▸ Nat.le_refl _), (hk ▸ Nat.le_refl _)⟩).trans rfl)
theorem sX6_leave_76 : Rn r 74 76 [some (vR z), l1, l2, l3, l4, l5] [] h Q ↔ Rn r 74 77 [some (vR z), l1, l2, l3, l4, l5] [vR z] h Q := Rn_nx pg74 rfl rfl
theorem sX6_leave_77 (hk : hK h a0 = 15) : Rn r 74 77 [l0, l1, l2, l3, l4, l5] [vR (some a0)] h Q ↔ Rn r 74 80 [l0, l1, l2, l3, l4, l5] [vI (hI h a0 66)] h Q := Rn_nx pg74 rfl (if_pos ⟨(hk ▸ Nat.le_refl _), (hk ▸ Nat.le_refl _)⟩)
theorem sX6_leave_80 : Rn r 74 80 [l0, l1, l2, l3, l4, l5] [vI x0] h Q ↔ if x0 ≠ 0 then Rn r 74 322 [l0, l1, l2, l3, l4, l5] [] h Q else Rn r 74 83 [l0, l1, l2, l3, l4, l5] [] h Q := Rn_if pg74 rfl rfl rfl
theorem sX6_leave_83 : Rn r 74 83 [some (vR z), l1, l2, l3, l4, l5] [] h Q ↔ Rn r 74 84 [some (vR z), l1, l2, l3, l4, l5] [vR z] h Q := Rn_nx pg74 rfl rfl
theorem sX6_leave_84 : Rn r 74 84 [some (vR z), l1, l2, l3, l4, l5] [vR z0] h Q ↔ Rn r 74 85 [some (vR z), l1, l2, l3, l4, l5] [vR z, vR z0] h Q := Rn_nx pg74 rfl rfl
theorem sX6_leave_85 : Rn r 74 85 [some (vR z), l1, l2, l3, l4, l5] [vR z0, vR z1] h Q ↔ Rn r 74 86 [some (vR z), l1, l2, l3, l4, l5] [vR z, vR z0, vR z1] h Q := Rn_nx pg74 rfl rfl
theorem sX6_leave_86 (hk : hK h a0 = 15) : Rn r 74 86 [l0, l1, l2, l3, l4, l5] [vR (some a0), vR z1, vR z2] h Q ↔ Rn r 74 89 [l0, l1, l2, l3, l4, l5] [vR (hR h a0 25), vR z1, vR z2] h Q := Rn_nx pg74 rfl (if_pos ⟨(hk ▸ Nat.le_refl _), (hk ▸ Nat.le_refl _)⟩)
theorem sX6_leave_89 : Rn r 74 89 [l0, l1, l2, some (vI x), l4, l5] [vR z0, vR z1, vR z2] h Q ↔ Rn r 74 90 [l0, l1, l2, some (vI x), l4, l5] [vI x, vR z0, vR z1, vR z2] h Q := Rn_nx pg74 rfl rfl
theorem sX6_leave_90 (hk : hK h a1 = 42) (hx : ¬ (x0 < 0 ∨ hL h a1 ≤ x0.toNatClampNeg)) : Rn r 74 90 [l0, l1, l2, l3, l4, l5] [vI x0, vR (some a1), vR z2, vR z3] h Q ↔ Rn r 74 91 [l0, l1, l2, l3, l4, l5] [vL (hJ h a1 x0.toNatClampNeg), vR z2, vR z3] h Q := Rn_nx pg74 rfl ((if_pos ⟨(hk ▸ Nat.le_refl _), (hk ▸ Nat.le_refl _)⟩).trans (if_neg hx))
theorem sX6_leave_91 (hk : hK h a1 = 15) : Rn r 74 91 [l0, l1, l2, l3, l4, l5] [vL y0, vR (some a1), vR z2] h Q ↔ Cl r 53 [vR (some a1), vL y0] h (Kt r 74 94 [l0, l1, l2, l3, l4, l5] [vR z2] Q) := Rn_call pg74 rfl (by simp only [am_exec, am_inv, am_pop, am_lk, hk]; rfl) pg53 rfl rfl rfl
theorem sX6_leave_94 (hk : hK h a1 = 15) : Rn r 74 94 [l0, l1, l2, l3, l4, l5] [vI x0, vR (some a1)] h Q ↔ Cl r 109 [vR (some a1), vI x0] h (Kt r 74 97 [l0, l1, l2, l3, l4, l5] [] Q) := Rn_call pg74 rfl (by simp only [am_exec, am_inv, am_pop, am_lk, hk]; rfl) pg109 rfl rfl rfl
theorem sX6_leave_97 : Rn r 74 97 [l0, l1, l2, l3, l4, l5] [] h Q ↔ Rn r 74 322 [l0, l1, l2, l3, l4, l5] [] h Q := Rn_nx pg74 rfl rfl
theorem sX6_leave_100 : Rn r 74 100 [some (vR z), l1, l2, l3, l4, l5] [] h Q ↔ Rn r 74 101 [some (vR z), l1, l2, l3, l4, l5] [vR z] h Q := Rn_nx pg74 rfl rfl
theorem sX6_leave_101 (hk : hK h a0 = 15) : Rn r 74 101 [l0, l1, l2, l3, l4, l5] [vR (some a0)] h Q ↔ Rn r 74 104 [l0, l1, l2, l3, l4, l5] [vI (hI h a0 66)] h Q := Rn_nx pg74 rfl (if_pos ⟨(hk ▸ Nat.le_refl _), (hk ▸ Nat.le_refl _)⟩)
theorem sX6_leave_104 : Rn r 74 104 [l0, l1, l2, l3, l4, l5] [vI x0] h Q ↔ Rn r 74 105 [l0, l1, l2, l3, l4, l5] [vI 2, vI x0] h Q := Rn_nx pg74 rfl rfl
theorem sX6_leave_105 : Rn r 74 105 [l0, l1, l2, l3, l4, l5] [vI x0, vI x1] h Q ↔ if x1 ≠ x0 then Rn r 74 124 [l0, l1, l2, l3, l4, l5] [] h Q else Rn r 74 108 [l0, l1, l2, l3, l4, l5] [] h Q := Rn_if pg74 rfl rfl rfl
theorem sX6_leave_108 : Rn r 74 108 [some (vR z), l1, l2, l3, l4, l5] [] h Q ↔ Rn r 74 109 [some (vR z), l1, l2, l3, l4, l5] [vR z] h Q := Rn_nx pg74 rfl rfl
theorem sX6_leave_109 (hk : hK h a0 = 15) : Rn r 74 109 [l0, l1, l2, l3, l4, l5] [vR (some a0)] h Q ↔ Rn r 74 112 [l0, l1, l2, l3, l4, l5] [vI (hI h a0 67)] h Q := Rn_nx pg74 rfl (if_pos ⟨(hk ▸ Nat.le_refl _), (hk ▸ Nat.le_refl _)⟩)
theorem sX6_leave_112 : Rn r 74 112 [l0, l1, l2, some (vI x), l4, l5] [vI x0] h Q ↔ Rn r 74 113 [l0, l1, l2, some (vI x), l4, l5] [vI x, vI x0] h Q := Rn_nx pg74 rfl rfl
theorem sX6_leave_113 : Rn r 74 113 [l0, l1, l2, l3, l4, l5] [vI x0, vI x1] h Q ↔ if x1 ≠ x0 then Rn r 74 124 [l0, l1, l2, l3, l4, l5] [] h Q else Rn r 74 116 [l0, l1, l2, l3, l4, l5] [] h Q := Rn_if pg74 rfl rfl rfl
theorem sX6_leave_116 : Rn r 74 116 [some (vR z), l1, l2, l3, l4, l5] [] h Q ↔ Rn r 74 117 [some (vR z), l1, l2, l3, l4, l5] [vR z] h Q := Rn_nx pg74 rfl rfl
theorem sX6_leave_117 : Rn r 74 117 [l0, l1, l2, l3, l4, l5] [vR z0] h Q ↔ Rn r 74 118 [l0, l1, l2, l3, l4, l5] [vI 0, vR z0] h Q := Rn_nx pg74 rfl rfl
theorem sX6_leave_118 (hk : hK h a1 = 15) : Rn r 74 118 [l0, l1, l2, l3, l4, l5] [vI x0, vR (some a1)] h Q ↔ Rn r 74 121 [l0, l1, l2, l3, l4, l5] [] (putI h a1 66 x0) Q := Rn_nx pg74 rfl ((if_pos ⟨(hk ▸ Nat.le_refl _), (hk ▸ Nat.le_refl _)⟩).trans rfl)
theorem sX6_leave_121 : Rn r 74 121 [l0, l1, l2, l3, l4, l5] [] h Q ↔ Rn r 74 322 [l0, l1, l2, l3, l4, l5] [] h Q := Rn_nx pg74 rfl rfl
theorem sX6_leave_124 : Rn r 74 124 [some (vR z), l1, l2, l3, l4, l5] [] h Q ↔ Rn r 74 125 [some (vR z), l1, l2, l3, l4, l5] [vR z] h Q := Rn_nx pg74 rfl rfl
theorem sX6_leave_125 (hk : hK h a0 = 15) : Rn r 74 125 [l0, l1, l2, l3, l4, l5] [vR (some a0)] h Q ↔ Rn r 74 128 [l0, l1, l2, l3, l4, l5] [vI (hI h a0 66)] h Q := Rn_nx pg74 rfl (if_pos ⟨(hk ▸ Nat.le_refl _), (hk ▸ Nat.le_refl _)⟩)
theorem sX6_leave_128 : Rn r 74 128 [l0, l1, l2, l3, l4, l5] [vI x0] h Q ↔ if x0 ≠ 0 then Rn r 74 322 [l0, l1, l2, l3, l4, l5] [] h Q else Rn r 74 131 [l0, l1, l2, l3, l4, l5] [] h Q := Rn_if pg74 rfl rfl rfl
theorem sX6_leave_131 : Rn r 74 131 [some (vR z), l1, l2, l3, l4, l5] [] h Q ↔ Rn r 74 132 [some (vR z), l1, l2, l3, l4, l5] [vR z] h Q := Rn_nx pg74 rfl rfl
theorem sX6_leave_132 (hk : hK h a0 = 15) : Rn r 74 132 [l0, l1, l2, l3, l4, l5] [vR (some a0)] h Q ↔ Cl r 72 [vR (some a0)] h (Kt r 74 135 [l0, l1, l2, l3, l4, l5] [] Q) := Rn_call pg74 rfl (by simp only [am_exec, am_inv, am_pop, am_lk, hk]; rfl) pg72 rfl rfl rfl
theorem sX6_leave_135 : Rn r 74 135 [l0, l1, l2, l3, l4, l5] [vI x0] h Q ↔ if x0 = 0 then Rn r 74 322 [l0, l1, l2, l3, l4, l5] [] h Q else Rn r 74 138 [l0, l1, l2, l3, l4, l5] [] h Q := Rn_if pg74 rfl rfl rfl
theorem sX6_leave_138 : Rn r 74 138 [some (vR z), l1, l2, l3, l4, l5] [] h Q ↔ Rn r 74 139 [some (vR z), l1, l2, l3, l4, l5] [vR z] h Q := Rn_nx pg74 rfl rfl
theorem sX6_leave_139 (hk : hK h a0 = 15) : Rn r 74 139 [l0, l1, l2, l3, l4, l5] [vR (some a0)] h Q ↔ Rn r 74 142 [l0, l1, l2, l3, l4, l5] [vR (hR h a0 20)] h Q := Rn_nx pg74 rfl (if_pos ⟨(hk ▸ Nat.le_refl _), (hk ▸ Nat.le_refl _)⟩)
theorem sX6_leave_142 : Rn r 74 142 [l0, l1, l2, some (vI x), l4, l5] [vR z0] h Q ↔ Rn r 74 143 [l0, l1, l2, some (vI x), l4, l5] [vI x, vR z0] h Q := Rn_nx pg74 rfl rfl
theorem sX6_leave_143 (hk : 40 ≤ hK h a1) (hk2 : hK h a1 ≤ 41) (hx : ¬ (x0 < 0 ∨ hL h a1 ≤ x0.toNatClampNeg)) : Rn r 74 143 [l0, l1, l2, l3, l4, l5] [vI x0, vR (some a1)] h Q ↔ Rn r 74 144 [l0, l1, l2, l3, l4, l5] [vI (hI h a1 x0.toNatClampNeg)] h Q := Rn_nx pg74 rfl ((if_pos ⟨hk, hk2⟩).trans (if_neg hx))
theorem sX6_leave_144 : Rn r 74 144 [l0, l1, l2, l3, l4, l5] [vI x0] h Q ↔ Rn r 74 146 [l0, l1, l2, l3, l4, l5] [vI 6, vI x0] h Q := Rn_nx pg74 rfl rfl
theorem sX6_leave_146 : Rn r 74 146 [l0, l1, l2, l3, l4, l5] [vI x0, vI x1] h Q ↔ if x1 = x0 then Rn r 74 158 [l0, l1, l2, l3, l4, l5] [] h Q else Rn r 74 149 [l0, l1, l2, l3, l4, l5] [] h Q := Rn_if pg74 rfl rfl rfl
theorem sX6_leave_149 : Rn r 74 149 [some (vR z), l1, l2, l3, l4, l5] [] h Q ↔ Rn r 74 150 [some (vR z), l1, l2, l3, l4, l5] [vR z] h Q := Rn_nx pg74 rfl rfl
theorem sX6_leave_150 : Rn r 74 150 [l0, l1, l2, l3, l4, l5] [vR z0] h Q ↔ Rn r 74 151 [l0, l1, l2, l3, l4, l5] [vI 2, vR z0] h Q := Rn_nx pg74 rfl rfl
theorem sX6_leave_151 (hk : hK h a1 = 15) : Rn r 74 151 [l0, l1, l2, l3, l4, l5] [vI x0, vR (some a1)] h Q ↔ Cl r 108 [vR (some a1), vI x0] h (Kt r 74 154 [l0, l1, l2, l3, l4, l5] [] Q) := Rn_call pg74 rfl (by simp only [am_exec, am_inv, am_pop, am_lk, hk]; rfl) pg108 rfl rfl rfl
theorem sX6_leave_154 : Rn r 74 154 [l0, l1, l2, l3, l4, l5] [vI x0] h Q ↔ Rn r 74 155 [l0, l1, l2, l3, l4, l5] [vI 1, vI x0] h Q := Rn_nx pg74 rfl rfl
theorem sX6_leave_155 : Rn r 74 155 [l0, l1, l2, l3, l4, l5] [vI x0, vI x1] h Q ↔ if x1 ≠ x0 then Rn r 74 322 [l0, l1, l2, l3, l4, l5] [] h Q else Rn r 74 158 [l0, l1, l2, l3, l4, l5] [] h Q := Rn_if pg74 rfl rfl rfl
theorem sX6_leave_158 : Rn r 74 158 [some (vR z), l1, l2, l3, l4, l5] [] h Q ↔ Rn r 74 159 [some (vR z), l1, l2, l3, l4, l5] [vR z] h Q := Rn_nx pg74 rfl rfl
theorem sX6_leave_159 : Rn r 74 159 [some (vR z), l1, l2, l3, l4, l5] [vR z0] h Q ↔ Rn r 74 160 [some (vR z), l1, l2, l3, l4, l5] [vR z, vR z0] h Q := Rn_nx pg74 rfl rfl
theorem sX6_leave_160 (hk : hK h a0 = 15) : Rn r 74 160 [l0, l1, l2, l3, l4, l5] [vR (some a0), vR z1] h Q ↔ Rn r 74 163 [l0, l1, l2, l3, l4, l5] [vR (hR h a0 27), vR z1] h Q := Rn_nx pg74 rfl (if_pos ⟨(hk ▸ Nat.le_refl _), (hk ▸ Nat.le_refl _)⟩)
theorem sX6_leave_163 : Rn r 74 163 [l0, l1, l2, some (vI x), l4, l5] [vR z0, vR z1] h Q ↔ Rn r 74 164 [l0, l1, l2, some (vI x), l4, l5] [vI x, vR z0, vR z1] h Q := Rn_nx pg74 rfl rfl
theorem sX6_leave_164 (hk : 40 ≤ hK h a1) (hk2 : hK h a1 ≤ 41) (hx : ¬ (x0 < 0 ∨ hL h a1 ≤ x0.toNatClampNeg)) : Rn r 74 164 [l0, l1, l2, l3, l4, l5] [vI x0, vR (some a1), vR z2] h Q ↔ Rn r 74 165 [l0, l1, l2, l3, l4, l5] [vI (hI h a1 x0.toNatClampNeg), vR z2] h Q := Rn_nx pg74 rfl ((if_pos ⟨hk, hk2⟩).trans (if_neg hx))
theorem sX6_leave_165 (hk : hK h a1 = 15) : Rn r 74 165 [l0, l1, l2, l3, l4, l5] [vI x0, vR (some a1)] h Q ↔ Cl r 71 [vR (some a1), vI x0] h (Kt r 74 168 [l0, l1, l2, l3, l4, l5] [] Q) := Rn_call pg74 rfl (by simp only [am_exec, am_inv, am_pop, am_lk, hk]; rfl) pg71 rfl rfl rfl
theorem sX6_leave_168 : Rn r 74 168 [l0, l1, l2, l3, l4, l5] [] h Q ↔ Rn r 74 322 [l0, l1, l2, l3, l4, l5] [] h Q := Rn_nx pg74 rfl rfl
theorem sX6_leave_171 : Rn r 74 171 [some (vR z), l1, l2, l3, l4, l5] [] h Q ↔ Rn r 74 172 [some (vR z), l1, l2, l3, l4, l5] [vR z] h Q := Rn_nx pg74 rfl rfl
theorem sX6_leave_172 (hk : hK h a0 = 15) : Rn r 74 172 [l0, l1, l2, l3, l4, l5] [vR (some a0)] h Q ↔ Rn r 74 175 [l0, l1, l2, l3, l4, l5] [vR (hR h a0 30)] h Q := Rn_nx pg74 rfl (if_pos ⟨(hk ▸ Nat.le_refl _), (hk ▸ Nat.le_refl _)⟩)
theorem sX6_leave_175 : Rn r 74 175 [l0, l1, l2, some (vI x), l4, l5] [vR z0] h Q ↔ Rn r 74 176 [l0, l1, l2, some (vI x), l4, l5] [vI x, vR z0] h Q := Rn_nx pg74 rfl rfl
theorem sX6_leave_176 (hk : 40 ≤ hK h a1) (hk2 : hK h a1 ≤ 41) (hx : ¬ (x0 < 0 ∨ hL h a1 ≤ x0.toNatClampNeg)) : Rn r 74 176 [l0, l1, l2, l3, l4, l5] [vI x0, vR (some a1)] h Q ↔ Rn r 74 177 [l0, l1, l2, l3, l4, l5] [vI (hI h a1 x0.toNatClampNeg)] h Q := Rn_nx pg74 rfl ((if_pos ⟨hk, hk2⟩).trans (if_neg hx))
theorem sX6_leave_177 : Rn r 74 177 [l0, l1, l2, l3, l4, l5] [vI x0] h Q ↔ Rn r 74 178 [l0, l1, l2, l3, l4, l5] [vI 1, vI x0] h Q := Rn_nx pg74 rfl rfl
theorem sX6_leave_178 : Rn r 74 178 [l0, l1, l2, l3, l4, l5] [vI x0, vI x1] h Q ↔ Rn r 74 179 [l0, l1, l2, l3, l4, l5] [vI (x1 - x0)] h Q := Rn_nx pg74 rfl rfl
theorem sX6_leave_179 : Rn r 74 179 [l0, l1, l2, l3, l4, l5] [vI x0] h Q ↔ Rn r 74 181 [l0, l1, l2, l3, some (vI x0), l5] [] h Q := Rn_nx pg74 rfl rfl
theorem sX6_leave_181 : Rn r 74 181 [l0, l1, l2, l3, some (vI x), l5] [] h Q ↔ Rn r 74 183 [l0, l1, l2, l3, some (vI x), l5] [vI x] h Q := Rn_nx pg74 rfl rfl
theorem sX6_leave_183 : Rn r 74 183 [l0, l1, l2, l3, l4, l5] [vI x0] h Q ↔ if x0 < 0 then Rn r 74 221 [l0, l1, l2, l3, l4, l5] [] h Q else Rn r 74 186 [l0, l1, l2, l3, l4, l5] [] h Q := Rn_if pg74 rfl rfl rfl
theorem sX6_leave_186 : Rn r 74 186 [some (vR z), l1, l2, l3, l4, l5] [] h Q ↔ Rn r 74 187 [some (vR z), l1, l2, l3, l4, l5] [vR z] h Q := Rn_nx pg74 rfl rfl
theorem sX6_leave_187 : Rn r 74 187 [some (vR z), l1, l2, l3, l4, l5] [vR z0] h Q ↔ Rn r 74 188 [some (vR z), l1, l2, l3, l4, l5] [vR z, vR z0] h Q := Rn_nx pg74 rfl rfl
theorem sX6_leave_188 (hk : hK h a0 = 15) : Rn r 74 188 [l0, l1, l2, l3, l4, l5] [vR (some a0), vR z1] h Q ↔ Rn r 74 191 [l0, l1, l2, l3, l4, l5] [vR (hR h a0 31), vR z1] h Q := Rn_nx pg74 rfl (if_pos ⟨(hk ▸ Nat.le_refl _), (hk ▸ Nat.le_refl _)⟩)
theorem sX6_leave_191 : Rn r 74 191 [l0, l1, l2, l3, l4, l5] [vR z0, vR z1] h Q ↔ Rn r 74 192 [l0, l1, l2, l3, l4, l5] [vI 4, vR z0, vR z1] h Q := Rn_nx pg74 rfl rfl
theorem sX6_leave_192 : Rn r 74 192 [l0, l1, l2, some (vI x), l4, l5] [vI x0, vR z1, vR z2] h Q ↔ Rn r 74 193 [l0, l1, l2, some (vI x), l4, l5] [vI x, vI x0, vR z1, vR z2] h Q := Rn_nx pg74 rfl rfl
theorem sX6_leave_193 : Rn r 74 193 [l0, l1, l2, l3, l4, l5] [vI x0, vI x1, vR z2, vR z3] h Q ↔ Rn r 74 194 [l0, l1, l2, l3, l4, l5] [vI (x1 * x0), vR z2, vR z3] h Q := Rn_nx pg74 rfl rfl
theorem sX6_leave_194 : Rn r 74 194 [l0, l1, l2, l3, some (vI x), l5] [vI x0, vR z1, vR z2] h Q ↔ Rn r 74 196 [l0, l1, l2, l3, some (vI x), l5] [vI x, vI x0, vR z1, vR z2] h Q := Rn_nx pg74 rfl rfl
theorem sX6_leave_196 : Rn r 74 196 [l0, l1, l2, l3, l4, l5] [vI x0, vI x1, vR z2, vR z3] h Q ↔ Rn r 74 197 [l0, l1, l2, l3, l4, l5] [vI (x1 + x0), vR z2, vR z3] h Q := Rn_nx pg74 rfl rfl
theorem sX6_leave_197 (hk : hK h a1 = 42) (hx : ¬ (x0 < 0 ∨ hL h a1 ≤ x0.toNatClampNeg)) : Rn r 74 197 [l0, l1, l2, l3, l4, l5] [vI x0, vR (some a1), vR z2] h Q ↔ Rn r 74 198 [l0, l1, l2, l3, l4, l5] [vL (hJ h a1 x0.toNatClampNeg), vR z2] h Q := Rn_nx pg74 rfl ((if_pos ⟨(hk ▸ Nat.le_refl _), (hk ▸ Nat.le_refl _)⟩).trans (if_neg hx))
theorem sX6_leave_198 (hk : hK h a1 = 15) : Rn r 74 198 [l0, l1, l2, l3, l4, l5] [vL y0, vR (some a1)] h Q ↔ Cl r 53 [vR (some a1), vL y0] h (Kt r 74 201 [l0, l1, l2, l3, l4, l5] [] Q) := Rn_call pg74 rfl (by simp only [am_exec, am_inv, am_pop, am_lk, hk]; rfl) pg53 rfl rfl rfl
theorem sX6_leave_201 : Rn r 74 201 [l0, l1, l2, l3, l4, l5] [vI x0] h Q ↔ Rn r 74 203 [l0, l1, l2, l3, l4, some (vI x0)] [] h Q := Rn_nx pg74 rfl rfl
theorem sX6_leave_203 : Rn r 74 203 [l0, l1, l2, l3, l4, some (vI x)] [] h Q ↔ Rn r 74 205 [l0, l1, l2, l3, l4, some (vI x)] [vI x] h Q := Rn_nx pg74 rfl rfl
theorem sX6_leave_205 : Rn r 74 205 [l0, l1, l2, l3, l4, l5] [vI x0] h Q ↔ Rn r 74 206 [l0, l1, l2, l3, l4, l5] [vI (-1), vI x0] h Q := Rn_nx pg74 rfl rfl
theorem sX6_leave_206 : Rn r 74 206 [l0, l1, l2, l3, l4, l5] [vI x0, vI x1] h Q ↔ if x1 = x0 then Rn r 74 215 [l0, l1, l2, l3, l4, l5] [] h Q else Rn r 74 209 [l0, l1, l2, l3, l4, l5] [] h Q := Rn_if pg74 rfl rfl rfl
theorem sX6_leave_209 : Rn r 74 209 [some (vR z), l1, l2, l3, l4, l5] [] h Q ↔ Rn r 74 210 [some (vR z), l1, l2, l3, l4, l5] [vR z] h Q := Rn_nx pg74 rfl rfl
theorem sX6_leave_210 : Rn r 74 210 [l0, l1, l2, l3, l4, some (vI x)] [vR z0] h Q ↔ Rn r 74 212 [l0, l1, l2, l3, l4, some (vI x)] [vI x, vR z0] h Q := Rn_nx pg74 rfl rfl
theorem sX6_leave_212 (hk : hK h a1 = 15) : Rn r 74 212 [l0, l1, l2, l3, l4, l5] [vI x0, vR (some a1)] h Q ↔ Cl r 109 [vR (some a1), vI x0] h (Kt r 74 215 [l0, l1, l2, l3, l4, l5] [] Q) := Rn_call pg74 rfl (by simp only [am_exec, am_inv, am_pop, am_lk, hk]; rfl) pg109 rfl rfl rfl
theorem sX6_leave_215 : Rn r 74 215 [l0, l1, l2, l3, some (vI x), l5] [] h Q ↔ Rn r 74 218 [l0, l1, l2, l3, some (vI (x + (-1))), l5] [] h Q := Rn_nx pg74 rfl rfl
theorem sX6_leave_218 : Rn r 74 218 [l0, l1, l2, l3, l4, l5] [] h Q ↔ Rn r 74 181 [l0, l1, l2, l3, l4, l5] [] h Q := Rn_nx pg74 rfl rfl
theorem sX6_leave_221 : Rn r 74 221 [some (vR z), l1, l2, l3, l4, l5] [] h Q ↔ Rn r 74 222 [some (vR z), l1, l2, l3, l4, l5] [vR z] h Q := Rn_nx pg74 rfl rfl
theorem sX6_leave_222 (hk : hK h a0 = 15) : Rn r 74 222 [l0, l1, l2, l3, l4, l5] [vR (some a0)] h Q ↔ Rn r 74 225 [l0, l1, l2, l3, l4, l5] [vI (hI h a0 66)] h Q := Rn_nx pg74 rfl (if_pos ⟨(hk ▸ Nat.le_refl _), (hk ▸ Nat.le_refl _)⟩)
theorem sX6_leave_225 : Rn r 74 225 [l0, l1, l2, l3, l4, l5] [vI x0] h Q ↔ Rn r 74 226 [l0, l1, l2, l3, l4, l5] [vI 1, vI x0] h Q := Rn_nx pg74 rfl rfl
theorem sX6_leave_226 : Rn r 74 226 [l0, l1, l2, l3, l4, l5] [vI x0, vI x1] h Q ↔ if x1 ≠ x0 then Rn r 74 237 [l0, l1, l2, l3, l4, l5] [] h Q else Rn r 74 229 [l0, l1, l2, l3, l4, l5] [] h Q := Rn_if pg74 rfl rfl rfl
theorem sX6_leave_229 : Rn r 74 229 [some (vR z), l1, l2, l3, l4, l5] [] h Q ↔ Rn r 74 230 [some (vR z), l1, l2, l3, l4, l5] [vR z] h Q := Rn_nx pg74 rfl rfl
theorem sX6_leave_230 : Rn r 74 230 [l0, l1, l2, some (vI x), l4, l5] [vR z0] h Q ↔ Rn r 74 231 [l0, l1, l2, some (vI x), l4, l5] [vI x, vR z0] h Q := Rn_nx pg74 rfl rfl
theorem sX6_leave_231 (hk : hK h a1 = 15) : Rn r 74 231 [l0, l1, l2, l3, l4, l5] [vI x0, vR (some a1)] h Q ↔ Cl r 113 [vR (some a1), vI x0] h (Kt r 74 234 [l0, l1, l2, l3, l4, l5] [] Q) := Rn_call pg74 rfl (by simp only [am_exec, am_inv, am_pop, am_lk, hk]; rfl) pg113 rfl rfl rfl
theorem sX6_leave_234 : Rn r 74 234 [l0, l1, l2, l3, l4, l5] [vI x0] h Q ↔ Rn r 74 238 [l0, l1, l2, l3, l4, l5] [vI x0] h Q := Rn_nx pg74 rfl rfl
theorem sX6_leave_237 : Rn r 74 237 [l0, l1, l2, l3, l4, l5] [] h Q ↔ Rn r 74 238 [l0, l1, l2, l3, l4, l5] [vI (-1)] h Q := Rn_nx pg74 rfl rfl
theorem sX6_leave_238 : Rn r 74 238 [l0, l1, l2, l3, l4, l5] [vI x0] h Q ↔ Rn r 74 240 [l0, l1, l2, l3, some (vI x0), l5] [] h Q := Rn_nx pg74 rfl rfl
theorem sX6_leave_240 : Rn r 74 240 [l0, l1, l2, l3, some (vI x), l5] [] h Q ↔ Rn r 74 242 [l0, l1, l2, l3, some (vI x), l5] [vI x] h Q := Rn_nx pg74 rfl rfl
theorem sX6_leave_242 : Rn r 74 242 [l0, l1, l2, l3, l4, l5] [vI x0] h Q ↔ Rn r 74 243 [l0, l1, l2, l3, l4, l5] [vI (-1), vI x0] h Q := Rn_nx pg74 rfl rfl
theorem sX6_leave_243 : Rn r 74 243 [l0, l1, l2, l3, l4, l5] [vI x0, vI x1] h Q ↔ if x1 ≠ x0 then Rn r 74 254 [l0, l1, l2, l3, l4, l5] [] h Q else Rn r 74 246 [l0, l1, l2, l3, l4, l5] [] h Q := Rn_if pg74 rfl rfl rfl
theorem sX6_leave_246 : Rn r 74 246 [some (vR z), l1, l2, l3, l4, l5] [] h Q ↔ Rn r 74 247 [some (vR z), l1, l2, l3, l4, l5] [vR z] h Q := Rn_nx pg74 rfl rfl
theorem sX6_leave_247 : Rn r 74 247 [l0, l1, l2, some (vI x), l4, l5] [vR z0] h Q ↔ Rn r 74 248 [l0, l1, l2, some (vI x), l4, l5] [vI x, vR z0] h Q := Rn_nx pg74 rfl rfl
theorem sX6_leave_248 (hk : hK h a1 = 15) : Rn r 74 248 [l0, l1, l2, l3, l4, l5] [vI x0, vR (some a1)] h Q ↔ Cl r 114 [vR (some a1), vI x0] h (Kt r 74 251 [l0, l1, l2, l3, l4, l5] [] Q) := Rn_call pg74 rfl (by simp only [am_exec, am_inv, am_pop, am_lk, hk]; rfl) pg114 rfl rfl rfl
theorem sX6_leave_251 : Rn r 74 251 [l0, l1, l2, l3, l4, l5] [] h Q ↔ Rn r 74 322 [l0, l1, l2, l3, l4, l5] [] h Q := Rn_nx pg74 rfl rfl
theorem sX6_leave_254 : Rn r 74 254 [some (vR z), l1, l2, l3, l4, l5] [] h Q ↔ Rn r 74 255 [some (vR z), l1, l2, l3, l4, l5] [vR z] h Q := Rn_nx pg74 rfl rfl
theorem sX6_leave_255 (hk : hK h a0 = 15) : Rn r 74 255 [l0, l1, l2, l3, l4, l5] [vR (some a0)] h Q ↔ Rn r 74 258 [l0, l1, l2, l3, l4, l5] [vR (hR h a0 74)] h Q := Rn_nx pg74 rfl (if_pos ⟨(hk ▸ Nat.le_refl _), (hk ▸ Nat.le_refl _)⟩)
theorem sX6_leave_258 : Rn r 74 258 [l0, l1, l2, l3, some (vI x), l5] [vR z0] h Q ↔ Rn r 74 260 [l0, l1, l2, l3, some (vI x), l5] [vI x, vR z0] h Q := Rn_nx pg74 rfl rfl
theorem sX6_leave_260 : Rn r 74 260 [some (vR z), l1, l2, l3, l4, l5] [vI x0, vR z1] h Q ↔ Rn r 74 261 [some (vR z), l1, l2, l3, l4, l5] [vR z, vI x0, vR z1] h Q := Rn_nx pg74 rfl rfl
theorem sX6_leave_261 (hk : hK h a0 = 15) : Rn r 74 261 [l0, l1, l2, l3, l4, l5] [vR (some a0), vI x1, vR z2] h Q ↔ Rn r 74 264 [l0, l1, l2, l3, l4, l5] [vI (hI h a0 67), vI x1, vR z2] h Q := Rn_nx pg74 rfl (if_pos ⟨(hk ▸ Nat.le_refl _), (hk ▸ Nat.le_refl _)⟩)
theorem sX6_leave_264 (hk : hK h a2 = 40) (hx : ¬ (x1 < 0 ∨ hL h a2 ≤ x1.toNatClampNeg)) : Rn r 74 264 [l0, l1, l2, l3, l4, l5] [vI x0, vI x1, vR (some a2)] h Q ↔ Rn r 74 265 [l0, l1, l2, l3, l4, l5] [] (putI h a2 x1.toNatClampNeg x0) Q := Rn_nx pg74 rfl ((if_pos hk).trans (if_neg hx))
theorem sX6_leave_265 : Rn r 74 265 [some (vR z), l1, l2, l3, l4, l5] [] h Q ↔ Rn r 74 266 [some (vR z), l1, l2, l3, l4, l5] [vR z] h Q := Rn_nx pg74 rfl rfl
theorem sX6_leave_266 : Rn r 74 266 [l0, l1, l2, l3, l4, l5] [vR z0] h Q ↔ Rn r 74 267 [l0, l1, l2, l3, l4, l5] [vI 0, vR z0] h Q := Rn_nx pg74 rfl rfl
theorem sX6_leave_267 (hk : hK h a1 = 15) : Rn r 74 267 [l0, l1, l2, l3, l4, l5] [vI x0, vR (some a1)] h Q ↔ Rn r 74 270 [l0, l1, l2, l3, l4, l5] [] (putI h a1 66 x0) Q := Rn_nx pg74 rfl ((if_pos ⟨(hk ▸ Nat.le_refl _), (hk ▸ Nat.le_refl _)⟩).trans rfl)
theorem sX6_leave_270 : Rn r 74 270 [some (vR z), l1, l2, l3, l4, l5] [] h Q ↔ Rn r 74 271 [some (vR z), l1, l2, l3, l4, l5] [vR z] h Q := Rn_nx pg74 rfl rfl
theorem sX6_leave_271 : Rn r 74 271 [some (vR z), l1, l2, l3, l4, l5] [vR z0] h Q ↔ Rn r 74 272 [some (vR z), l1, l2, l3, l4, l5] [vR z, vR z0] h Q := Rn_nx pg74 rfl rfl
theorem sX6_leave_272 (hk : hK h a0 = 15) : Rn r 74 272 [l0, l1, l2, l3, l4, l5] [vR (some a0), vR z1] h Q ↔ Rn r 74 275 [l0, l1, l2, l3, l4, l5] [vR (hR h a0 34), vR z1] h Q := Rn_nx pg74 rfl (if_pos ⟨(hk ▸ Nat.le_refl _), (hk ▸ Nat.le_refl _)⟩)
theorem sX6_leave_275 : Rn r 74 275 [l0, l1, l2, l3, some (vI x), l5] [vR z0, vR z1] h Q ↔ Rn r 74 277 [l0, l1, l2, l3, some (vI x), l5] [vI x, vR z0, vR z1] h Q := Rn_nx pg74 rfl rfl
theorem sX6_leave_277 (hk : 40 ≤ hK h a1) (hk2 : hK h a1 ≤ 41) (hx : ¬ (x0 < 0 ∨ hL h a1 ≤ x0.toNatClampNeg)) : Rn r 74 277 [l0, l1, l2, l3, l4, l5] [vI x0, vR (some a1), vR z2] h Q ↔ Rn r 74 278 [l0, l1, l2, l3, l4, l5] [vI (hI h a1 x0.toNatClampNeg), vR z2] h Q := Rn_nx pg74 rfl ((if_pos ⟨hk, hk2⟩).trans (if_neg hx))
theorem sX6_leave_278 (hk : hK h a1 = 15) : Rn r 74 278 [l0, l1, l2, l3, l4, l5] [vI x0, vR (some a1)] h Q ↔ Cl r 71 [vR (some a1), vI x0] h (Kt r 74 281 [l0, l1, l2, l3, l4, l5] [] Q) := Rn_call pg74 rfl (by simp only [am_exec, am_inv, am_pop, am_lk, hk]; rfl) pg71 rfl rfl rfl
theorem sX6_leave_281 : Rn r 74 281 [l0, l1, l2, l3, l4, l5] [] h Q ↔ Rn r 74 322 [l0, l1, l2, l3, l4, l5] [] h Q := Rn_nx pg74 rfl rfl
theorem sX6_leave_284 : Rn r 74 284 [some (vR z), l1, l2, l3, l4, l5] [] h Q ↔ Rn r 74 285 [some (vR z), l1, l2, l3, l4, l5] [vR z] h Q := Rn_nx pg74 rfl rfl
theorem sX6_leave_285 : Rn r 74 285 [l0, l1, l2, some (vI x), l4, l5] [vR z0] h Q ↔ Rn r 74 286 [l0, l1, l2, some (vI x), l4, l5] [vI x, vR z0] h Q := Rn_nx pg74 rfl rfl
theorem sX6_leave_286 (hk : hK h a1 = 15) : Rn r 74 286 [l0, l1, l2, l3, l4, l5] [vI x0, vR (some a1)] h Q ↔ Cl r 114 [vR (some a1), vI x0] h (Kt r 74 289 [l0, l1, l2, l3, l4, l5] [] Q) := Rn_call pg74 rfl (by simp only [am_exec, am_inv, am_pop, am_lk, hk]; rfl) pg114 rfl rfl rfl
theorem sX6_leave_289 : Rn r 74 289 [l0, l1, l2, l3, l4, l5] [] h Q ↔ Rn r 74 322 [l0, l1, l2, l3, l4, l5] [] h Q := Rn_nx pg74 rfl rfl
theorem sX6_leave_292 : Rn r 74 292 [some (vR z), l1, l2, l3, l4, l5] [] h Q ↔ Rn r 74 293 [some (vR z), l1, l2, l3, l4, l5] [vR z] h Q := Rn_nx pg74 rfl rfl
theorem sX6_leave_293 (hk : hK h a0 = 15) : Rn r 74 293 [l0, l1, l2, l3, l4, l5] [vR (some a0)] h Q ↔ Rn r 74 296 [l0, l1, l2, l3, l4, l5] [vI (hI h a0 66)] h Q := Rn_nx pg74 rfl (if_pos ⟨(hk ▸ Nat.le_refl _), (hk ▸ Nat.le_refl _)⟩)
theorem sX6_leave_296 : Rn r 74 296 [l0, l1, l2, l3, l4, l5] [vI x0] h Q ↔ if x0 ≠ 0 then Rn r 74 322 [l0, l1, l2, l3, l4, l5] [] h Q else Rn r 74 299 [l0, l1, l2, l3, l4, l5] [] h Q := Rn_if pg74 rfl rfl rfl
theorem sX6_leave_299 : Rn r 74 299 [some (vR z), l1, l2, l3, l4, l5] [] h Q ↔ Rn r 74 300 [some (vR z), l1, l2, l3, l4, l5] [vR z] h Q := Rn_nx pg74 rfl rfl
theorem sX6_leave_300 : Rn r 74 300 [some (vR z), l1, l2, l3, l4, l5] [vR z0] h Q ↔ Rn r 74 301 [some (vR z), l1, l2, l3, l4, l5] [vR z, vR z0] h Q := Rn_nx pg74 rfl rfl
theorem sX6_leave_301 (hk : hK h a0 = 15) : Rn r 74 301 [l0, l1, l2, l3, l4, l5] [vR (some a0), vR z1] h Q ↔ Rn r 74 304 [l0, l1, l2, l3, l4, l5] [vR (hR h a0 72), vR z1] h Q := Rn_nx pg74 rfl (if_pos ⟨(hk ▸ Nat.le_refl _), (hk ▸ Nat.le_refl _)⟩)
theorem sX6_leave_304 : Rn r 74 304 [l0, l1, some (vI x), l3, l4, l5] [vR z0, vR z1] h Q ↔ Rn r 74 305 [l0, l1, some (vI x), l3, l4, l5] [vI x, vR z0, vR z1] h Q := Rn_nx pg74 rfl rfl
theorem sX6_leave_305 (hk : 40 ≤ hK h a1) (hk2 : hK h a1 ≤ 41) (hx : ¬ (x0 < 0 ∨ hL h a1 ≤ x0.toNatClampNeg)) : Rn r 74 305 [l0, l1, l2, l3, l4, l5] [vI x0, vR (some a1), vR z2] h Q ↔ Rn r 74 306 [l0, l1, l2, l3, l4, l5] [vI (hI h a1 x0.toNatClampNeg), vR z2] h Q := Rn_nx pg74 rfl ((if_pos ⟨hk, hk2⟩).trans (if_neg hx))
theorem sX6_leave_306 (hk : hK h a1 = 15) : Rn r 74 306 [l0, l1, l2, l3, l4, l5] [vI x0, vR (some a1)] h Q ↔ Rn r 74 309 [l0, l1, l2, l3, l4, l5] [] (putI h a1 66 x0) Q := Rn_nx pg74 rfl ((if_pos ⟨(hk ▸ Nat.le_refl _), (hk ▸ Nat.le_refl _)⟩).trans rfl)
theorem sX6_leave_309 : Rn r 74 309 [some (vR z), l1, l2, l3, l4, l5] [] h Q ↔ Rn r 74 310 [some (vR z), l1, l2, l3, l4, l5] [vR z] h Q := Rn_nx pg74 rfl rfl
theorem sX6_leave_310 : Rn r 74 310 [some (vR z), l1, l2, l3, l4, l5] [vR z0] h Q ↔ Rn r 74 311 [some (vR z), l1, l2, l3, l4, l5] [vR z, vR z0] h Q := Rn_nx pg74 rfl rfl
theorem sX6_leave_311 (hk : hK h a0 = 15) : Rn r 74 311 [l0, l1, l2, l3, l4, l5] [vR (some a0), vR z1] h Q ↔ Rn r 74 314 [l0, l1, l2, l3, l4, l5] [vR (hR h a0 73), vR z1] h Q := Rn_nx pg74 rfl (if_pos ⟨(hk ▸ Nat.le_refl _), (hk ▸ Nat.le_refl _)⟩)
theorem sX6_leave_314 : Rn r 74 314 [l0, l1, some (vI x), l3, l4, l5] [vR z0, vR z1] h Q ↔ Rn r 74 315 [l0, l1, some (vI x), l3, l4, l5] [vI x, vR z0, vR z1] h Q := Rn_nx pg74 rfl rfl
theorem sX6_leave_315 (hk : 40 ≤ hK h a1) (hk2 : hK h a1 ≤ 41) (hx : ¬ (x0 < 0 ∨ hL h a1 ≤ x0.toNatClampNeg)) : Rn r 74 315 [l0, l1, l2, l3, l4, l5] [vI x0, vR (some a1), vR z2] h Q ↔ Rn r 74 316 [l0, l1, l2, l3, l4, l5] [vI (hI h a1 x0.toNatClampNeg), vR z2] h Q := Rn_nx pg74 rfl ((if_pos ⟨hk, hk2⟩).trans (if_neg hx))
theorem sX6_leave_316 (hk : hK h a1 = 15) : Rn r 74 316 [l0, l1, l2, l3, l4, l5] [vI x0, vR (some a1)] h Q ↔ Rn r 74 319 [l0, l1, l2, l3, l4, l5] [] (putI h a1 67 x0) Q := Rn_nx pg74 rfl ((if_pos ⟨(hk ▸ Nat.le_refl _), (hk ▸ Nat.le_refl _)⟩).trans rfl)
theorem sX6_leave_319 : Rn r 74 319 [l0, l1, l2, l3, l4, l5] [] h Q ↔ Rn r 74 322 [l0, l1, l2, l3, l4, l5] [] h Q := Rn_nx pg74 rfl rfl
theorem sX6_leave_322 : Rn r 74 322 [l0, l1, l2, l3, l4, l5] [] h Q ↔ Q (Sum.inl none) h := Rn_end pg74 rfl rfl
/-! 75 ThrowRules$Wrong.<init>()V -/
theorem eX2_init : Cl r 75 [vR z0] h Q ↔ Rn r 75 0 [some (vR z0)] [] h Q := Cl_in pg75 rfl
theorem sX2_init_0 : Rn r 75 0 [some (vR z)] [] h Q ↔ Rn r 75 1 [some (vR z)] [vR z] h Q := Rn_nx pg75 rfl rfl
theorem sX2_init_1 : Rn r 75 1 [l0] [vR z0] h Q ↔ Rn r 75 2 [l0] [vR none, vR z0] h Q := Rn_nx pg75 rfl rfl
theorem sX2_init_2 : Rn r 75 2 [l0] [vR z0, vR z1] h Q ↔ Rn r 75 3 [l0] [vR none, vR z0, vR z1] h Q := Rn_nx pg75 rfl rfl
theorem sX2_init_3 : Rn r 75 3 [l0] [vR z0, vR z1, vR z2] h Q ↔ Rn r 75 4 [l0] [vI 0, vR z0, vR z1, vR z2] h Q := Rn_nx pg75 rfl rfl
theorem sX2_init_4 : Rn r 75 4 [l0] [vI x0, vR z1, vR z2, vR z3] h Q ↔ Rn r 75 5 [l0] [vI 0, vI x0, vR z1, vR z2, vR z3] h Q := Rn_nx pg75 rfl rfl
theorem sX2_init_5 (hk : 0 < hK h a4) (hk2 : hK h a4 < 40) : Rn r 75 5 [l0] [vI x0, vI x1, vR z2, vR z3, vR (some a4)] h Q ↔ Cl r 115 [vR (some a4), vR z3, vR z2, vI x1, vI x0] h (Kt r 75 8 [l0] [] Q) := Rn_call pg75 rfl (if_pos ⟨hk, hk2⟩) pg115 rfl rfl rfl
theorem sX2_init_8 : Rn r 75 8 [l0] [] h Q ↔ Q (Sum.inl none) h := Rn_end pg75 rfl rfl
/-! 76 java/util/ArrayList.<init>()V -/
theorem eJ5_init : Cl r 76 [vR z0] h Q ↔ Rn r 76 0 [some (vR z0)] [] h Q := Cl_in pg76 rfl
theorem sJ5_init_0 : Rn r 76 0 [some (vR z)] [] h Q ↔ Rn r 76 1 [some (vR z)] [vR z] h Q := Rn_nx pg76 rfl rfl
theorem sJ5_init_1 (hk : 0 < hK h a0) (hk2 : hK h a0 < 40) : Rn r 76 1 [l0] [vR (some a0)] h Q ↔ Cl r 116 [vR (some a0)] h (Kt r 76 4 [l0] [] Q) := Rn_call pg76 rfl (if_pos ⟨hk, hk2⟩) pg116 rfl rfl rfl
theorem sJ5_init_4 : Rn r 76 4 [some (vR z)] [] h Q ↔ Rn r 76 5 [some (vR z)] [vR z] h Q := Rn_nx pg76 rfl rfl
theorem sJ5_init_5 : Rn r 76 5 [l0] [vR z0] h Q ↔ Rn r 76 8 [l0] [vR (some (hE h 31)), vR z0] h Q := Rn_nx pg76 rfl rfl
theorem sJ5_init_8 (hk : hK h a1 = 4) : Rn r 76 8 [l0] [vR z0, vR (some a1)] h Q ↔ Rn r 76 11 [l0] [] (putR h a1 1 z0) Q := Rn_nx pg76 rfl ((if_pos ⟨(hk ▸ Nat.le_refl _), (hk ▸ Nat.le_refl _)⟩).trans rfl)
theorem sJ5_init_11 : Rn r 76 11 [l0] [] h Q ↔ Q (Sum.inl none) h := Rn_end pg76 rfl rfl
/-! 77 java/util/HashMap.<init>()V -/
theorem eJ7_init : Cl r 77 [vR z0] h Q ↔ Rn r 77 0 [some (vR z0)] [] h Q := Cl_in pg77 rfl
theorem sJ7_init_0 : Rn r 77 0 [some (vR z)] [] h Q ↔ Rn r 77 1 [some (vR z)] [vR z] h Q := Rn_nx pg77 rfl rfl
theorem sJ7_init_1 (hk : 0 < hK h a0) (hk2 : hK h a0 < 40) : Rn r 77 1 [l0] [vR (some a0)] h Q ↔ Cl r 117 [vR (some a0)] h (Kt r 77 4 [l0] [] Q) := Rn_call pg77 rfl (if_pos ⟨hk, hk2⟩) pg117 rfl rfl rfl
theorem sJ7_init_4 : Rn r 77 4 [some (vR z)] [] h Q ↔ Rn r 77 5 [some (vR z)] [vR z] h Q := Rn_nx pg77 rfl rfl
theorem sJ7_init_5 : Rn r 77 5 [l0] [vR z0] h Q ↔ Rn r 77 7 [l0] [vF (UInt32.ofNat 1061158912), vR z0] h Q := Rn_nx pg77 rfl rfl
theorem sJ7_init_7 (hk : hK h a1 = 6) : Rn r 77 7 [l0] [vF w0, vR (some a1)] h Q ↔ Rn r 77 10 [l0] [] h Q := Rn_nx pg77 rfl ((if_pos ⟨(hk ▸ Nat.le_refl _), (hk ▸ Nat.le_refl _)⟩).trans rfl)
theorem sJ7_init_10 : Rn r 77 10 [l0] [] h Q ↔ Q (Sum.inl none) h := Rn_end pg77 rfl rfl
/-! 78 ThrowRules$Unit.add(Ljava/lang/String;LThrowRules$Kind;I)LThrowRules$Kind; -/
theorem eX3_add : Cl r 78 [vR z0, vR z1, vR z2, vI x3] h Q ↔ Rn r 78 0 [some (vR z0), some (vR z1), some (vR z2), some (vI x3), none] [] h Q := Cl_in pg78 rfl
theorem sX3_add_0 : Rn r 78 0 [l0, l1, l2, l3, l4] [] h Q ↔ Rn r 78 3 [l0, l1, l2, l3, l4] [vR (some (hN h))] (newC h 7 4) Q := Rn_nx pg78 rfl rfl
theorem sX3_add_3 : Rn r 78 3 [l0, l1, l2, l3, l4] [vR z0] h Q ↔ Rn r 78 4 [l0, l1, l2, l3, l4] [vR z0, vR z0] h Q := Rn_nx pg78 rfl rfl
theorem sX3_add_4 : Rn r 78 4 [l0, some (vR z), l2, l3, l4] [vR z0, vR z1] h Q ↔ Rn r 78 5 [l0, some (vR z), l2, l3, l4] [vR z, vR z0, vR z1] h Q := Rn_nx pg78 rfl rfl
theorem sX3_add_5 : Rn r 78 5 [some (vR z), l1, l2, l3, l4] [vR z0, vR z1, vR z2] h Q ↔ Rn r 78 6 [some (vR z), l1, l2, l3, l4] [vR z, vR z0, vR z1, vR z2] h Q := Rn_nx pg78 rfl rfl
theorem sX3_add_6 (hk : hK h a0 = 5) : Rn r 78 6 [l0, l1, l2, l3, l4] [vR (some a0), vR z1, vR z2, vR z3] h Q ↔ Rn r 78 9 [l0, l1, l2, l3, l4] [vR (hR h a0 0), vR z1, vR z2, vR z3] h Q := Rn_nx pg78 rfl (if_pos ⟨(hk ▸ Nat.le_refl _), (hk ▸ Nat.le_refl _)⟩)
theorem sX3_add_9 (hk : hK h a0 = 4) : Rn r 78 9 [l0, l1, l2, l3, l4] [vR (some a0), vR z1, vR z2, vR z3] h Q ↔ Cl r 34 [vR (some a0)] h (Kt r 78 12 [l0, l1, l2, l3, l4] [vR z1, vR z2, vR z3] Q) := Rn_call pg78 rfl (by simp only [am_exec, am_inv, am_pop, am_lk, hk]; rfl) pg34 rfl rfl rfl
theorem sX3_add_12 : Rn r 78 12 [l0, l1, some (vR z), l3, l4] [vI x0, vR z1, vR z2, vR z3] h Q ↔ Rn r 78 13 [l0, l1, some (vR z), l3, l4] [vR z, vI x0, vR z1, vR z2, vR z3] h Q := Rn_nx pg78 rfl rfl
theorem sX3_add_13 : Rn r 78 13 [l0, l1, l2, some (vI x), l4] [vR z0, vI x1, vR z2, vR z3, vR z4] h Q ↔ Rn r 78 14 [l0, l1, l2, some (vI x), l4] [vI x, vR z0, vI x1, vR z2, vR z3, vR z4] h Q := Rn_nx pg78 rfl rfl
theorem sX3_add_14 (hk : 0 < hK h a4) (hk2 : hK h a4 < 40) : Rn r 78 14 [l0, l1, l2, l3, l4] [vI x0, vR z1, vI x2, vR z3, vR (some a4), vR z5] h Q ↔ Cl r 118 [vR (some a4), vR z3, vI x2, vR z1, vI x0] h (Kt r 78 17 [l0, l1, l2, l3, l4] [vR z5] Q) := Rn_call pg78 rfl (if_pos ⟨hk, hk2⟩) pg118 rfl rfl rfl
theorem sX3_add_17 : Rn r 78 17 [l0, l1, l2, l3, l4] [vR z0] h Q ↔ Rn r 78 19 [l0, l1, l2, l3, some (vR z0)] [] h Q := Rn_nx pg78 rfl rfl
theorem sX3_add_19 : Rn r 78 19 [some (vR z), l1, l2, l3, l4] [] h Q ↔ Rn r 78 20 [some (vR z), l1, l2, l3, l4] [vR z] h Q := Rn_nx pg78 rfl rfl
theorem sX3_add_20 (hk : hK h a0 = 5) : Rn r 78 20 [l0, l1, l2, l3, l4] [vR (some a0)] h Q ↔ Rn r 78 23 [l0, l1, l2, l3, l4] [vR (hR h a0 0)] h Q := Rn_nx pg78 rfl (if_pos ⟨(hk ▸ Nat.le_refl _), (hk ▸ Nat.le_refl _)⟩)
theorem sX3_add_23 : Rn r 78 23 [l0, l1, l2, l3, some (vR z)] [vR z0] h Q ↔ Rn r 78 25 [l0, l1, l2, l3, some (vR z)] [vR z, vR z0] h Q := Rn_nx pg78 rfl rfl
theorem sX3_add_25 (hk : hK h a1 = 4) : Rn r 78 25 [l0, l1, l2, l3, l4] [vR z0, vR (some a1)] h Q ↔ Cl r 119 [vR (some a1), vR z0] h (Kt r 78 28 [l0, l1, l2, l3, l4] [] Q) := Rn_call pg78 rfl (by simp only [am_exec, am_inv, am_pop, am_lk, hk]; rfl) pg119 rfl rfl rfl
theorem sX3_add_28 : Rn r 78 28 [l0, l1, l2, l3, l4] [vI x0] h Q ↔ Rn r 78 29 [l0, l1, l2, l3, l4] [] h Q := Rn_nx pg78 rfl rfl
theorem sX3_add_29 : Rn r 78 29 [some (vR z), l1, l2, l3, l4] [] h Q ↔ Rn r 78 30 [some (vR z), l1, l2, l3, l4] [vR z] h Q := Rn_nx pg78 rfl rfl
theorem sX3_add_30 (hk : hK h a0 = 5) : Rn r 78 30 [l0, l1, l2, l3, l4] [vR (some a0)] h Q ↔ Rn r 78 33 [l0, l1, l2, l3, l4] [vR (hR h a0 1)] h Q := Rn_nx pg78 rfl (if_pos ⟨(hk ▸ Nat.le_refl _), (hk ▸ Nat.le_refl _)⟩)
theorem sX3_add_33 : Rn r 78 33 [l0, some (vR z), l2, l3, l4] [vR z0] h Q ↔ Rn r 78 34 [l0, some (vR z), l2, l3, l4] [vR z, vR z0] h Q := Rn_nx pg78 rfl rfl
theorem sX3_add_34 (hk : hK h a1 = 6) : Rn r 78 34 [l0, l1, l2, l3, l4] [vR z0, vR (some a1)] h Q ↔ Cl r 120 [vR (some a1), vR z0] h (Kt r 78 37 [l0, l1, l2, l3, l4] [] Q) := Rn_call pg78 rfl (by simp only [am_exec, am_inv, am_pop, am_lk, hk]; rfl) pg120 rfl rfl rfl
theorem sX3_add_37 : Rn r 78 37 [l0, l1, l2, l3, l4] [vI x0] h Q ↔ if x0 ≠ 0 then Rn r 78 51 [l0, l1, l2, l3, l4] [] h Q else Rn r 78 40 [l0, l1, l2, l3, l4] [] h Q := Rn_if pg78 rfl rfl rfl
theorem sX3_add_40 : Rn r 78 40 [some (vR z), l1, l2, l3, l4] [] h Q ↔ Rn r 78 41 [some (vR z), l1, l2, l3, l4] [vR z] h Q := Rn_nx pg78 rfl rfl
theorem sX3_add_41 (hk : hK h a0 = 5) : Rn r 78 41 [l0, l1, l2, l3, l4] [vR (some a0)] h Q ↔ Rn r 78 44 [l0, l1, l2, l3, l4] [vR (hR h a0 1)] h Q := Rn_nx pg78 rfl (if_pos ⟨(hk ▸ Nat.le_refl _), (hk ▸ Nat.le_refl _)⟩)
theorem sX3_add_44 : Rn r 78 44 [l0, some (vR z), l2, l3, l4] [vR z0] h Q ↔ Rn r 78 45 [l0, some (vR z), l2, l3, l4] [vR z, vR z0] h Q := Rn_nx pg78 rfl rfl
theorem sX3_add_45 : Rn r 78 45 [l0, l1, l2, l3, some (vR z)] [vR z0, vR z1] h Q ↔ Rn r 78 47 [l0, l1, l2, l3, some (vR z)] [vR z, vR z0, vR z1] h Q := Rn_nx pg78 rfl rfl
theorem sX3_add_47 (hk : hK h a2 = 6) : Rn r 78 47 [l0, l1, l2, l3, l4] [vR z0, vR z1, vR (some a2)] h Q ↔ Cl r 121 [vR (some a2), vR z1, vR z0] h (Kt r 78 50 [l0, l1, l2, l3, l4] [] Q) := Rn_call pg78 rfl (by simp only [am_exec, am_inv, am_pop, am_lk, hk]; rfl) pg121 rfl rfl rfl
theorem sX3_add_50 : Rn r 78 50 [l0, l1, l2, l3, l4] [vR z0] h Q ↔ Rn r 78 51 [l0, l1, l2, l3, l4] [] h Q := Rn_nx pg78 rfl rfl
theorem sX3_add_51 : Rn r 78 51 [l0, l1, l2, l3, some (vR z)] [] h Q ↔ Rn r 78 53 [l0, l1, l2, l3, some (vR z)] [vR z] h Q := Rn_nx pg78 rfl rfl
theorem sX3_add_53 : Rn r 78 53 [l0, l1, l2, l3, l4] [vR z0] h Q ↔ Q (Sum.inl (some (vR z0))) h := Rn_end pg78 rfl rfl
/-! 79 java/util/ArrayList.clear()V -/
theorem eJ5_clear : Cl r 79 [vR z0] h Q ↔ Rn r 79 0 [some (vR z0), none, none, none] [] h Q := Cl_in pg79 rfl
theorem sJ5_clear_0 : Rn r 79 0 [some (vR z), l1, l2, l3] [] h Q ↔ Rn r 79 1 [some (vR z), l1, l2, l3] [vR z] h Q := Rn_nx pg79 rfl rfl
theorem sJ5_clear_1 : Rn r 79 1 [l0, l1, l2, l3] [vR z0] h Q ↔ Rn r 79 2 [l0, l1, l2, l3] [vR z0, vR z0] h Q := Rn_nx pg79 rfl rfl
theorem sJ5_clear_2 (hk : hK h a0 = 4) : Rn r 79 2 [l0, l1, l2, l3] [vR (some a0), vR z1] h Q ↔ Rn r 79 5 [l0, l1, l2, l3] [vI (hI h a0 0), vR z1] h Q := Rn_nx pg79 rfl (if_pos ⟨(hk ▸ Nat.le_refl _), (hk ▸ Nat.le_refl _)⟩)
theorem sJ5_clear_5 : Rn r 79 5 [l0, l1, l2, l3] [vI x0, vR z1] h Q ↔ Rn r 79 6 [l0, l1, l2, l3] [vI 1, vI x0, vR z1] h Q := Rn_nx pg79 rfl rfl
theorem sJ5_clear_6 : Rn r 79 6 [l0, l1, l2, l3] [vI x0, vI x1, vR z2] h Q ↔ Rn r 79 7 [l0, l1, l2, l3] [vI (x1 + x0), vR z2] h Q := Rn_nx pg79 rfl rfl
theorem sJ5_clear_7 (hk : hK h a1 = 4) : Rn r 79 7 [l0, l1, l2, l3] [vI x0, vR (some a1)] h Q ↔ Rn r 79 10 [l0, l1, l2, l3] [] (putI h a1 0 x0) Q := Rn_nx pg79 rfl ((if_pos ⟨(hk ▸ Nat.le_refl _), (hk ▸ Nat.le_refl _)⟩).trans rfl)
theorem sJ5_clear_10 : Rn r 79 10 [some (vR z), l1, l2, l3] [] h Q ↔ Rn r 79 11 [some (vR z), l1, l2, l3] [vR z] h Q := Rn_nx pg79 rfl rfl
theorem sJ5_clear_11 (hk : hK h a0 = 4) : Rn r 79 11 [l0, l1, l2, l3] [vR (some a0)] h Q ↔ Rn r 79 14 [l0, l1, l2, l3] [vR (hR h a0 1)] h Q := Rn_nx pg79 rfl (if_pos ⟨(hk ▸ Nat.le_refl _), (hk ▸ Nat.le_refl _)⟩)
theorem sJ5_clear_14 : Rn r 79 14 [l0, l1, l2, l3] [vR z0] h Q ↔ Rn r 79 15 [l0, some (vR z0), l2, l3] [] h Q := Rn_nx pg79 rfl rfl
theorem sJ5_clear_15 : Rn r 79 15 [some (vR z), l1, l2, l3] [] h Q ↔ Rn r 79 16 [some (vR z), l1, l2, l3] [vR z] h Q := Rn_nx pg79 rfl rfl
theorem sJ5_clear_16 (hk : hK h a0 = 4) : Rn r 79 16 [l0, l1, l2, l3] [vR (some a0)] h Q ↔ Rn r 79 19 [l0, l1, l2, l3] [vI (hI h a0 2)] h Q := Rn_nx pg79 rfl (if_pos ⟨(hk ▸ Nat.le_refl _), (hk ▸ Nat.le_refl _)⟩)
theorem sJ5_clear_19 : Rn r 79 19 [l0, l1, l2, l3] [vI x0] h Q ↔ Rn r 79 20 [l0, l1, some (vI x0), l3] [] h Q := Rn_nx pg79 rfl rfl
theorem sJ5_clear_20 : Rn r 79 20 [some (vR z), l1, l2, l3] [] h Q ↔ Rn r 79 21 [some (vR z), l1, l2, l3] [vR z] h Q := Rn_nx pg79 rfl rfl
theorem sJ5_clear_21 : Rn r 79 21 [l0, l1, l2, l3] [vR z0] h Q ↔ Rn r 79 22 [l0, l1, l2, l3] [vI 0, vR z0] h Q := Rn_nx pg79 rfl rfl
theorem sJ5_clear_22 : Rn r 79 22 [l0, l1, l2, l3] [vI x0, vR z1] h Q ↔ Rn r 79 23 [l0, l1, l2, l3] [vI x0, vR z1, vI x0] h Q := Rn_nx pg79 rfl rfl
theorem sJ5_clear_23 (hk : hK h a1 = 4) : Rn r 79 23 [l0, l1, l2, l3] [vI x0, vR (some a1), vI x2] h Q ↔ Rn r 79 26 [l0, l1, l2, l3] [vI x2] (putI h a1 2 x0) Q := Rn_nx pg79 rfl ((if_pos ⟨(hk ▸ Nat.le_refl _), (hk ▸ Nat.le_refl _)⟩).trans rfl)
theorem sJ5_clear_26 : Rn r 79 26 [l0, l1, l2, l3] [vI x0] h Q ↔ Rn r 79 27 [l0, l1, l2, some (vI x0)] [] h Q := Rn_nx pg79 rfl rfl
theorem sJ5_clear_27 : Rn r 79 27 [l0, l1, l2, some (vI x)] [] h Q ↔ Rn r 79 28 [l0, l1, l2, some (vI x)] [vI x] h Q := Rn_nx pg79 rfl rfl
theorem sJ5_clear_28 : Rn r 79 28 [l0, l1, some (vI x), l3] [vI x0] h Q ↔ Rn r 79 29 [l0, l1, some (vI x), l3] [vI x, vI x0] h Q := Rn_nx pg79 rfl rfl
theorem sJ5_clear_29 : Rn r 79 29 [l0, l1, l2, l3] [vI x0, vI x1] h Q ↔ if x0 ≤ x1 then Rn r 79 42 [l0, l1, l2, l3] [] h Q else Rn r 79 32 [l0, l1, l2, l3] [] h Q := Rn_if pg79 rfl rfl rfl
theorem sJ5_clear_32 : Rn r 79 32 [l0, some (vR z), l2, l3] [] h Q ↔ Rn r 79 33 [l0, some (vR z), l2, l3] [vR z] h Q := Rn_nx pg79 rfl rfl
theorem sJ5_clear_33 : Rn r 79 33 [l0, l1, l2, some (vI x)] [vR z0] h Q ↔ Rn r 79 34 [l0, l1, l2, some (vI x)] [vI x, vR z0] h Q := Rn_nx pg79 rfl rfl
theorem sJ5_clear_34 : Rn r 79 34 [l0, l1, l2, l3] [vI x0, vR z1] h Q ↔ Rn r 79 35 [l0, l1, l2, l3] [vR none, vI x0, vR z1] h Q := Rn_nx pg79 rfl rfl
theorem sJ5_clear_35_n (hk : hK h a2 = 46 ∨ hK h a2 = 48) (hx : ¬ (x1 < 0 ∨ hL h a2 ≤ x1.toNatClampNeg)) : Rn r 79 35 [l0, l1, l2, l3] [vR none, vI x1, vR (some a2)] h Q ↔ Rn r 79 36 [l0, l1, l2, l3] [] (putR h a2 x1.toNatClampNeg none) Q := Rn_nx pg79 rfl ((if_pos hk).trans (if_neg hx))
theorem sJ5_clear_35 (hk : (hK h a2 = 46 ∧ 0 < hK h a0 ∧ hK h a0 < 40) ∨ (hK h a2 = 48 ∧ 12 ≤ hK h a0 ∧ hK h a0 ≤ 13)) (hx : ¬ (x1 < 0 ∨ hL h a2 ≤ x1.toNatClampNeg)) : Rn r 79 35 [l0, l1, l2, l3] [vR (some a0), vI x1, vR (some a2)] h Q ↔ Rn r 79 36 [l0, l1, l2, l3] [] (putR h a2 x1.toNatClampNeg (some a0)) Q := Rn_nx pg79 rfl ((if_pos hk).trans (if_neg hx))
theorem sJ5_clear_36 : Rn r 79 36 [l0, l1, l2, some (vI x)] [] h Q ↔ Rn r 79 39 [l0, l1, l2, some (vI (x + 1))] [] h Q := Rn_nx pg79 rfl rfl
theorem sJ5_clear_39 : Rn r 79 39 [l0, l1, l2, l3] [] h Q ↔ Rn r 79 27 [l0, l1, l2, l3] [] h Q := Rn_nx pg79 rfl rfl
theorem sJ5_clear_42 : Rn r 79 42 [l0, l1, l2, l3] [] h Q ↔ Q (Sum.inl none) h := Rn_end pg79 rfl rfl
/-! 80 ThrowRules$Reader.next()V -/
theorem eX1_next : Cl r 80 [vR z0] h Q ↔ Rn r 80 0 [some (vR z0), none, none, none] [] h Q := Cl_in pg80 rfl
theorem sX1_next_0 : Rn r 80 0 [some (vR z), l1, l2, l3] [] h Q ↔ Rn r 80 1 [some (vR z), l1, l2, l3] [vR z] h Q := Rn_nx pg80 rfl rfl
theorem sX1_next_1 (hk : hK h a0 = 2) : Rn r 80 1 [l0, l1, l2, l3] [vR (some a0)] h Q ↔ Rn r 80 4 [l0, l1, l2, l3] [vI (hI h a0 3)] h Q := Rn_nx pg80 rfl (if_pos ⟨(hk ▸ Nat.le_refl _), (hk ▸ Nat.le_refl _)⟩)
theorem sX1_next_4 : Rn r 80 4 [some (vR z), l1, l2, l3] [vI x0] h Q ↔ Rn r 80 5 [some (vR z), l1, l2, l3] [vR z, vI x0] h Q := Rn_nx pg80 rfl rfl
theorem sX1_next_5 (hk : hK h a0 = 2) : Rn r 80 5 [l0, l1, l2, l3] [vR (some a0), vI x1] h Q ↔ Rn r 80 8 [l0, l1, l2, l3] [vI (hI h a0 2), vI x1] h Q := Rn_nx pg80 rfl (if_pos ⟨(hk ▸ Nat.le_refl _), (hk ▸ Nat.le_refl _)⟩)
theorem sX1_next_8 : Rn r 80 8 [l0, l1, l2, l3] [vI x0, vI x1] h Q ↔ if x0 ≤ x1 then Rn r 80 52 [l0, l1, l2, l3] [] h Q else Rn r 80 11 [l0, l1, l2, l3] [] h Q := Rn_if pg80 rfl rfl rfl
theorem sX1_next_11 : Rn r 80 11 [some (vR z), l1, l2, l3] [] h Q ↔ Rn r 80 12 [some (vR z), l1, l2, l3] [vR z] h Q := Rn_nx pg80 rfl rfl
theorem sX1_next_12 (hk : hK h a0 = 2) : Rn r 80 12 [l0, l1, l2, l3] [vR (some a0)] h Q ↔ Rn r 80 15 [l0, l1, l2, l3] [vR (hR h a0 1)] h Q := Rn_nx pg80 rfl (if_pos ⟨(hk ▸ Nat.le_refl _), (hk ▸ Nat.le_refl _)⟩)
theorem sX1_next_15 : Rn r 80 15 [some (vR z), l1, l2, l3] [vR z0] h Q ↔ Rn r 80 16 [some (vR z), l1, l2, l3] [vR z, vR z0] h Q := Rn_nx pg80 rfl rfl
theorem sX1_next_16 (hk : hK h a0 = 2) : Rn r 80 16 [l0, l1, l2, l3] [vR (some a0), vR z1] h Q ↔ Rn r 80 19 [l0, l1, l2, l3] [vI (hI h a0 3), vR z1] h Q := Rn_nx pg80 rfl (if_pos ⟨(hk ▸ Nat.le_refl _), (hk ▸ Nat.le_refl _)⟩)
theorem sX1_next_19 (hk : 43 ≤ hK h a1) (hk2 : hK h a1 ≤ 45) (hx : ¬ (x0 < 0 ∨ hL h a1 ≤ x0.toNatClampNeg)) : Rn r 80 19 [l0, l1, l2, l3] [vI x0, vR (some a1)] h Q ↔ Rn r 80 20 [l0, l1, l2, l3] [vI (hI h a1 x0.toNatClampNeg)] h Q := Rn_nx pg80 rfl ((if_pos ⟨hk, hk2⟩).trans (if_neg hx))
theorem sX1_next_20 : Rn r 80 20 [l0, l1, l2, l3] [vI x0] h Q ↔ Rn r 80 22 [l0, l1, l2, l3] [vI 32, vI x0] h Q := Rn_nx pg80 rfl rfl
theorem sX1_next_22 : Rn r 80 22 [l0, l1, l2, l3] [vI x0, vI x1] h Q ↔ if x1 = x0 then Rn r 80 39 [l0, l1, l2, l3] [] h Q else Rn r 80 25 [l0, l1, l2, l3] [] h Q := Rn_if pg80 rfl rfl rfl
theorem sX1_next_25 : Rn r 80 25 [some (vR z), l1, l2, l3] [] h Q ↔ Rn r 80 26 [some (vR z), l1, l2, l3] [vR z] h Q := Rn_nx pg80 rfl rfl
theorem sX1_next_26 (hk : hK h a0 = 2) : Rn r 80 26 [l0, l1, l2, l3] [vR (some a0)] h Q ↔ Rn r 80 29 [l0, l1, l2, l3] [vR (hR h a0 1)] h Q := Rn_nx pg80 rfl (if_pos ⟨(hk ▸ Nat.le_refl _), (hk ▸ Nat.le_refl _)⟩)
theorem sX1_next_29 : Rn r 80 29 [some (vR z), l1, l2, l3] [vR z0] h Q ↔ Rn r 80 30 [some (vR z), l1, l2, l3] [vR z, vR z0] h Q := Rn_nx pg80 rfl rfl
theorem sX1_next_30 (hk : hK h a0 = 2) : Rn r 80 30 [l0, l1, l2, l3] [vR (some a0), vR z1] h Q ↔ Rn r 80 33 [l0, l1, l2, l3] [vI (hI h a0 3), vR z1] h Q := Rn_nx pg80 rfl (if_pos ⟨(hk ▸ Nat.le_refl _), (hk ▸ Nat.le_refl _)⟩)
theorem sX1_next_33 (hk : 43 ≤ hK h a1) (hk2 : hK h a1 ≤ 45) (hx : ¬ (x0 < 0 ∨ hL h a1 ≤ x0.toNatClampNeg)) : Rn r 80 33 [l0, l1, l2, l3] [vI x0, vR (some a1)] h Q ↔ Rn r 80 34 [l0, l1, l2, l3] [vI (hI h a1 x0.toNatClampNeg)] h Q := Rn_nx pg80 rfl ((if_pos ⟨hk, hk2⟩).trans (if_neg hx))
theorem sX1_next_34 : Rn r 80 34 [l0, l1, l2, l3] [vI x0] h Q ↔ Rn r 80 36 [l0, l1, l2, l3] [vI 10, vI x0] h Q := Rn_nx pg80 rfl rfl
theorem sX1_next_36 : Rn r 80 36 [l0, l1, l2, l3] [vI x0, vI x1] h Q ↔ if x1 ≠ x0 then Rn r 80 52 [l0, l1, l2, l3] [] h Q else Rn r 80 39 [l0, l1, l2, l3] [] h Q := Rn_if pg80 rfl rfl rfl
theorem sX1_next_39 : Rn r 80 39 [some (vR z), l1, l2, l3] [] h Q ↔ Rn r 80 40 [some (vR z), l1, l2, l3] [vR z] h Q := Rn_nx pg80 rfl rfl
theorem sX1_next_40 : Rn r 80 40 [l0, l1, l2, l3] [vR z0] h Q ↔ Rn r 80 41 [l0, l1, l2, l3] [vR z0, vR z0] h Q := Rn_nx pg80 rfl rfl
theorem sX1_next_41 (hk : hK h a0 = 2) : Rn r 80 41 [l0, l1, l2, l3] [vR (some a0), vR z1] h Q ↔ Rn r 80 44 [l0, l1, l2, l3] [vI (hI h a0 3), vR z1] h Q := Rn_nx pg80 rfl (if_pos ⟨(hk ▸ Nat.le_refl _), (hk ▸ Nat.le_refl _)⟩)
theorem sX1_next_44 : Rn r 80 44 [l0, l1, l2, l3] [vI x0, vR z1] h Q ↔ Rn r 80 45 [l0, l1, l2, l3] [vI 1, vI x0, vR z1] h Q := Rn_nx pg80 rfl rfl
theorem sX1_next_45 : Rn r 80 45 [l0, l1, l2, l3] [vI x0, vI x1, vR z2] h Q ↔ Rn r 80 46 [l0, l1, l2, l3] [vI (x1 + x0), vR z2] h Q := Rn_nx pg80 rfl rfl
theorem sX1_next_46 (hk : hK h a1 = 2) : Rn r 80 46 [l0, l1, l2, l3] [vI x0, vR (some a1)] h Q ↔ Rn r 80 49 [l0, l1, l2, l3] [] (putI h a1 3 x0) Q := Rn_nx pg80 rfl ((if_pos ⟨(hk ▸ Nat.le_refl _), (hk ▸ Nat.le_refl _)⟩).trans rfl)
theorem sX1_next_49 : Rn r 80 49 [l0, l1, l2, l3] [] h Q ↔ Rn r 80 0 [l0, l1, l2, l3] [] h Q := Rn_nx pg80 rfl rfl
theorem sX1_next_52 : Rn r 80 52 [some (vR z), l1, l2, l3] [] h Q ↔ Rn r 80 53 [some (vR z), l1, l2, l3] [vR z] h Q := Rn_nx pg80 rfl rfl
theorem sX1_next_53 : Rn r 80 53 [some (vR z), l1, l2, l3] [vR z0] h Q ↔ Rn r 80 54 [some (vR z), l1, l2, l3] [vR z, vR z0] h Q := Rn_nx pg80 rfl rfl
theorem sX1_next_54 (hk : hK h a0 = 2) : Rn r 80 54 [l0, l1, l2, l3] [vR (some a0), vR z1] h Q ↔ Rn r 80 57 [l0, l1, l2, l3] [vI (hI h a0 3), vR z1] h Q := Rn_nx pg80 rfl (if_pos ⟨(hk ▸ Nat.le_refl _), (hk ▸ Nat.le_refl _)⟩)
theorem sX1_next_57 (hk : hK h a1 = 2) : Rn r 80 57 [l0, l1, l2, l3] [vI x0, vR (some a1)] h Q ↔ Rn r 80 60 [l0, l1, l2, l3] [] (putI h a1 4 x0) Q := Rn_nx pg80 rfl ((if_pos ⟨(hk ▸ Nat.le_refl _), (hk ▸ Nat.le_refl _)⟩).trans rfl)
theorem sX1_next_60 : Rn r 80 60 [some (vR z), l1, l2, l3] [] h Q ↔ Rn r 80 61 [some (vR z), l1, l2, l3] [vR z] h Q := Rn_nx pg80 rfl rfl
theorem sX1_next_61 : Rn r 80 61 [l0, l1, l2, l3] [vR z0] h Q ↔ Rn r 80 62 [l0, l1, l2, l3] [vR none, vR z0] h Q := Rn_nx pg80 rfl rfl
theorem sX1_next_62 (hk : hK h a1 = 2) : Rn r 80 62 [l0, l1, l2, l3] [vR z0, vR (some a1)] h Q ↔ Rn r 80 65 [l0, l1, l2, l3] [] (putR h a1 5 z0) Q := Rn_nx pg80 rfl ((if_pos ⟨(hk ▸ Nat.le_refl _), (hk ▸ Nat.le_refl _)⟩).trans rfl)
theorem sX1_next_65 : Rn r 80 65 [some (vR z), l1, l2, l3] [] h Q ↔ Rn r 80 66 [some (vR z), l1, l2, l3] [vR z] h Q := Rn_nx pg80 rfl rfl
theorem sX1_next_66 : Rn r 80 66 [l0, l1, l2, l3] [vR z0] h Q ↔ Rn r 80 67 [l0, l1, l2, l3] [vI (-1), vR z0] h Q := Rn_nx pg80 rfl rfl
theorem sX1_next_67 (hk : hK h a1 = 2) : Rn r 80 67 [l0, l1, l2, l3] [vI x0, vR (some a1)] h Q ↔ Rn r 80 70 [l0, l1, l2, l3] [] (putI h a1 6 x0) Q := Rn_nx pg80 rfl ((if_pos ⟨(hk ▸ Nat.le_refl _), (hk ▸ Nat.le_refl _)⟩).trans rfl)
theorem sX1_next_70 : Rn r 80 70 [some (vR z), l1, l2, l3] [] h Q ↔ Rn r 80 71 [some (vR z), l1, l2, l3] [vR z] h Q := Rn_nx pg80 rfl rfl
theorem sX1_next_71 (hk : hK h a0 = 2) : Rn r 80 71 [l0, l1, l2, l3] [vR (some a0)] h Q ↔ Rn r 80 74 [l0, l1, l2, l3] [vI (hI h a0 3)] h Q := Rn_nx pg80 rfl (if_pos ⟨(hk ▸ Nat.le_refl _), (hk ▸ Nat.le_refl _)⟩)
theorem sX1_next_74 : Rn r 80 74 [some (vR z), l1, l2, l3] [vI x0] h Q ↔ Rn r 80 75 [some (vR z), l1, l2, l3] [vR z, vI x0] h Q := Rn_nx pg80 rfl rfl
theorem sX1_next_75 (hk : hK h a0 = 2) : Rn r 80 75 [l0, l1, l2, l3] [vR (some a0), vI x1] h Q ↔ Rn r 80 78 [l0, l1, l2, l3] [vI (hI h a0 2), vI x1] h Q := Rn_nx pg80 rfl (if_pos ⟨(hk ▸ Nat.le_refl _), (hk ▸ Nat.le_refl _)⟩)
theorem sX1_next_78 : Rn r 80 78 [l0, l1, l2, l3] [vI x0, vI x1] h Q ↔ if x1 ≠ x0 then Rn r 80 82 [l0, l1, l2, l3] [] h Q else Rn r 80 81 [l0, l1, l2, l3] [] h Q := Rn_if pg80 rfl rfl rfl
theorem sX1_next_81 : Rn r 80 81 [l0, l1, l2, l3] [] h Q ↔ Q (Sum.inl none) h := Rn_end pg80 rfl rfl
theorem sX1_next_82 : Rn r 80 82 [l0, l1, l2, l3] [] h Q ↔ Rn r 80 83 [l0, l1, l2, l3] [vI 0] h Q := Rn_nx pg80 rfl rfl
theorem sX1_next_83 : Rn r 80 83 [l0, l1, l2, l3] [vI x0] h Q ↔ Rn r 80 84 [l0, some (vI x0), l2, l3] [] h Q := Rn_nx pg80 rfl rfl
theorem sX1_next_84 : Rn r 80 84 [some (vR z), l1, l2, l3] [] h Q ↔ Rn r 80 85 [some (vR z), l1, l2, l3] [vR z] h Q := Rn_nx pg80 rfl rfl
theorem sX1_next_85 (hk : hK h a0 = 2) : Rn r 80 85 [l0, l1, l2, l3] [vR (some a0)] h Q ↔ Rn r 80 88 [l0, l1, l2, l3] [vI (hI h a0 3)] h Q := Rn_nx pg80 rfl (if_pos ⟨(hk ▸ Nat.le_refl _), (hk ▸ Nat.le_refl _)⟩)
theorem sX1_next_88 : Rn r 80 88 [l0, some (vI x), l2, l3] [vI x0] h Q ↔ Rn r 80 89 [l0, some (vI x), l2, l3] [vI x, vI x0] h Q := Rn_nx pg80 rfl rfl
theorem sX1_next_89 : Rn r 80 89 [l0, l1, l2, l3] [vI x0, vI x1] h Q ↔ Rn r 80 90 [l0, l1, l2, l3] [vI (x1 + x0)] h Q := Rn_nx pg80 rfl rfl
theorem sX1_next_90 : Rn r 80 90 [some (vR z), l1, l2, l3] [vI x0] h Q ↔ Rn r 80 91 [some (vR z), l1, l2, l3] [vR z, vI x0] h Q := Rn_nx pg80 rfl rfl
theorem sX1_next_91 (hk : hK h a0 = 2) : Rn r 80 91 [l0, l1, l2, l3] [vR (some a0), vI x1] h Q ↔ Rn r 80 94 [l0, l1, l2, l3] [vI (hI h a0 2), vI x1] h Q := Rn_nx pg80 rfl (if_pos ⟨(hk ▸ Nat.le_refl _), (hk ▸ Nat.le_refl _)⟩)
theorem sX1_next_94 : Rn r 80 94 [l0, l1, l2, l3] [vI x0, vI x1] h Q ↔ if x0 ≤ x1 then Rn r 80 120 [l0, l1, l2, l3] [] h Q else Rn r 80 97 [l0, l1, l2, l3] [] h Q := Rn_if pg80 rfl rfl rfl
theorem sX1_next_97 : Rn r 80 97 [some (vR z), l1, l2, l3] [] h Q ↔ Rn r 80 98 [some (vR z), l1, l2, l3] [vR z] h Q := Rn_nx pg80 rfl rfl
theorem sX1_next_98 (hk : hK h a0 = 2) : Rn r 80 98 [l0, l1, l2, l3] [vR (some a0)] h Q ↔ Rn r 80 101 [l0, l1, l2, l3] [vR (hR h a0 1)] h Q := Rn_nx pg80 rfl (if_pos ⟨(hk ▸ Nat.le_refl _), (hk ▸ Nat.le_refl _)⟩)
theorem sX1_next_101 : Rn r 80 101 [some (vR z), l1, l2, l3] [vR z0] h Q ↔ Rn r 80 102 [some (vR z), l1, l2, l3] [vR z, vR z0] h Q := Rn_nx pg80 rfl rfl
theorem sX1_next_102 (hk : hK h a0 = 2) : Rn r 80 102 [l0, l1, l2, l3] [vR (some a0), vR z1] h Q ↔ Rn r 80 105 [l0, l1, l2, l3] [vI (hI h a0 3), vR z1] h Q := Rn_nx pg80 rfl (if_pos ⟨(hk ▸ Nat.le_refl _), (hk ▸ Nat.le_refl _)⟩)
theorem sX1_next_105 : Rn r 80 105 [l0, some (vI x), l2, l3] [vI x0, vR z1] h Q ↔ Rn r 80 106 [l0, some (vI x), l2, l3] [vI x, vI x0, vR z1] h Q := Rn_nx pg80 rfl rfl
theorem sX1_next_106 : Rn r 80 106 [l0, l1, l2, l3] [vI x0, vI x1, vR z2] h Q ↔ Rn r 80 107 [l0, l1, l2, l3] [vI (x1 + x0), vR z2] h Q := Rn_nx pg80 rfl rfl
theorem sX1_next_107 (hk : 43 ≤ hK h a1) (hk2 : hK h a1 ≤ 45) (hx : ¬ (x0 < 0 ∨ hL h a1 ≤ x0.toNatClampNeg)) : Rn r 80 107 [l0, l1, l2, l3] [vI x0, vR (some a1)] h Q ↔ Rn r 80 108 [l0, l1, l2, l3] [vI (hI h a1 x0.toNatClampNeg)] h Q := Rn_nx pg80 rfl ((if_pos ⟨hk, hk2⟩).trans (if_neg hx))
theorem sX1_next_108 : Rn r 80 108 [l0, l1, l2, l3] [vI x0] h Q ↔ Cl r 122 [vI x0] h (Kt r 80 111 [l0, l1, l2, l3] [] Q) := Rn_call pg80 rfl rfl pg122 rfl rfl rfl
theorem sX1_next_111 : Rn r 80 111 [l0, l1, l2, l3] [vI x0] h Q ↔ if x0 = 0 then Rn r 80 120 [l0, l1, l2, l3] [] h Q else Rn r 80 114 [l0, l1, l2, l3] [] h Q := Rn_if pg80 rfl rfl rfl
theorem sX1_next_114 : Rn r 80 114 [l0, some (vI x), l2, l3] [] h Q ↔ Rn r 80 117 [l0, some (vI (x + 1)), l2, l3] [] h Q := Rn_nx pg80 rfl rfl
theorem sX1_next_117 : Rn r 80 117 [l0, l1, l2, l3] [] h Q ↔ Rn r 80 84 [l0, l1, l2, l3] [] h Q := Rn_nx pg80 rfl rfl
theorem sX1_next_120 : Rn r 80 120 [l0, some (vI x), l2, l3] [] h Q ↔ Rn r 80 121 [l0, some (vI x), l2, l3] [vI x] h Q := Rn_nx pg80 rfl rfl
theorem sX1_next_121 : Rn r 80 121 [l0, l1, l2, l3] [vI x0] h Q ↔ Rn r 80 123 [l0, l1, l2, l3] [vI 8, vI x0] h Q := Rn_nx pg80 rfl rfl
theorem sX1_next_123 : Rn r 80 123 [l0, l1, l2, l3] [vI x0, vI x1] h Q ↔ if x1 ≤ x0 then Rn r 80 135 [l0, l1, l2, l3] [] h Q else Rn r 80 126 [l0, l1, l2, l3] [] h Q := Rn_if pg80 rfl rfl rfl
theorem sX1_next_126 : Rn r 80 126 [some (vR z), l1, l2, l3] [] h Q ↔ Rn r 80 127 [some (vR z), l1, l2, l3] [vR z] h Q := Rn_nx pg80 rfl rfl
theorem sX1_next_127 : Rn r 80 127 [some (vR z), l1, l2, l3] [vR z0] h Q ↔ Rn r 80 128 [some (vR z), l1, l2, l3] [vR z, vR z0] h Q := Rn_nx pg80 rfl rfl
theorem sX1_next_128 (hk : hK h a0 = 2) : Rn r 80 128 [l0, l1, l2, l3] [vR (some a0), vR z1] h Q ↔ Rn r 80 131 [l0, l1, l2, l3] [vI (hI h a0 4), vR z1] h Q := Rn_nx pg80 rfl (if_pos ⟨(hk ▸ Nat.le_refl _), (hk ▸ Nat.le_refl _)⟩)
theorem sX1_next_131 (hk : hK h a1 = 2) : Rn r 80 131 [l0, l1, l2, l3] [vI x0, vR (some a1)] h Q ↔ Cl r 123 [vR (some a1), vI x0] h (Kt r 80 134 [l0, l1, l2, l3] [] Q) := Rn_call pg80 rfl (by simp only [am_exec, am_inv, am_pop, am_lk, hk]; rfl) pg123 rfl rfl rfl
theorem sX1_next_134 (hk : hK h a0 = 3) : Rn r 80 134 [l0, l1, l2, l3] [vR (some a0)] h Q ↔ Q (Sum.inr a0) h := Rn_end pg80 rfl (if_pos hk)
theorem sX1_next_135 : Rn r 80 135 [l0, some (vI x), l2, l3] [] h Q ↔ Rn r 80 136 [l0, some (vI x), l2, l3] [vI x] h Q := Rn_nx pg80 rfl rfl
theorem sX1_next_136 : Rn r 80 136 [l0, l1, l2, l3] [vI x0] h Q ↔ if x0 ≤ 0 then Rn r 80 204 [l0, l1, l2, l3] [] h Q else Rn r 80 139 [l0, l1, l2, l3] [] h Q := Rn_if pg80 rfl rfl rfl
theorem sX1_next_139 : Rn r 80 139 [l0, l1, l2, l3] [] h Q ↔ Rn r 80 142 [l0, l1, l2, l3] [vR (some (hN h))] (newC h 16 4) Q := Rn_nx pg80 rfl rfl
theorem sX1_next_142 : Rn r 80 142 [l0, l1, l2, l3] [vR z0] h Q ↔ Rn r 80 143 [l0, l1, l2, l3] [vR z0, vR z0] h Q := Rn_nx pg80 rfl rfl
theorem sX1_next_143 : Rn r 80 143 [l0, some (vI x), l2, l3] [vR z0, vR z1] h Q ↔ Rn r 80 144 [l0, some (vI x), l2, l3] [vI x, vR z0, vR z1] h Q := Rn_nx pg80 rfl rfl
theorem sX1_next_144 (hk : 0 < hK h a1) (hk2 : hK h a1 < 40) : Rn r 80 144 [l0, l1, l2, l3] [vI x0, vR (some a1), vR z2] h Q ↔ Cl r 63 [vR (some a1), vI x0] h (Kt r 80 147 [l0, l1, l2, l3] [vR z2] Q) := Rn_call pg80 rfl (if_pos ⟨hk, hk2⟩) pg63 rfl rfl rfl
theorem sX1_next_147 : Rn r 80 147 [l0, l1, l2, l3] [vR z0] h Q ↔ Rn r 80 148 [l0, l1, some (vR z0), l3] [] h Q := Rn_nx pg80 rfl rfl
theorem sX1_next_148 : Rn r 80 148 [l0, l1, l2, l3] [] h Q ↔ Rn r 80 149 [l0, l1, l2, l3] [vI 0] h Q := Rn_nx pg80 rfl rfl
theorem sX1_next_149 : Rn r 80 149 [l0, l1, l2, l3] [vI x0] h Q ↔ Rn r 80 150 [l0, l1, l2, some (vI x0)] [] h Q := Rn_nx pg80 rfl rfl
theorem sX1_next_150 : Rn r 80 150 [l0, l1, l2, some (vI x)] [] h Q ↔ Rn r 80 151 [l0, l1, l2, some (vI x)] [vI x] h Q := Rn_nx pg80 rfl rfl
theorem sX1_next_151 : Rn r 80 151 [l0, some (vI x), l2, l3] [vI x0] h Q ↔ Rn r 80 152 [l0, some (vI x), l2, l3] [vI x, vI x0] h Q := Rn_nx pg80 rfl rfl
theorem sX1_next_152 : Rn r 80 152 [l0, l1, l2, l3] [vI x0, vI x1] h Q ↔ if x0 ≤ x1 then Rn r 80 178 [l0, l1, l2, l3] [] h Q else Rn r 80 155 [l0, l1, l2, l3] [] h Q := Rn_if pg80 rfl rfl rfl
theorem sX1_next_155 : Rn r 80 155 [l0, l1, some (vR z), l3] [] h Q ↔ Rn r 80 156 [l0, l1, some (vR z), l3] [vR z] h Q := Rn_nx pg80 rfl rfl
theorem sX1_next_156 : Rn r 80 156 [some (vR z), l1, l2, l3] [vR z0] h Q ↔ Rn r 80 157 [some (vR z), l1, l2, l3] [vR z, vR z0] h Q := Rn_nx pg80 rfl rfl
theorem sX1_next_157 (hk : hK h a0 = 2) : Rn r 80 157 [l0, l1, l2, l3] [vR (some a0), vR z1] h Q ↔ Rn r 80 160 [l0, l1, l2, l3] [vR (hR h a0 1), vR z1] h Q := Rn_nx pg80 rfl (if_pos ⟨(hk ▸ Nat.le_refl _), (hk ▸ Nat.le_refl _)⟩)
theorem sX1_next_160 : Rn r 80 160 [some (vR z), l1, l2, l3] [vR z0, vR z1] h Q ↔ Rn r 80 161 [some (vR z), l1, l2, l3] [vR z, vR z0, vR z1] h Q := Rn_nx pg80 rfl rfl
theorem sX1_next_161 (hk : hK h a0 = 2) : Rn r 80 161 [l0, l1, l2, l3] [vR (some a0), vR z1, vR z2] h Q ↔ Rn r 80 164 [l0, l1, l2, l3] [vI (hI h a0 3), vR z1, vR z2] h Q := Rn_nx pg80 rfl (if_pos ⟨(hk ▸ Nat.le_refl _), (hk ▸ Nat.le_refl _)⟩)
theorem sX1_next_164 : Rn r 80 164 [l0, l1, l2, some (vI x)] [vI x0, vR z1, vR z2] h Q ↔ Rn r 80 165 [l0, l1, l2, some (vI x)] [vI x, vI x0, vR z1, vR z2] h Q := Rn_nx pg80 rfl rfl
theorem sX1_next_165 : Rn r 80 165 [l0, l1, l2, l3] [vI x0, vI x1, vR z2, vR z3] h Q ↔ Rn r 80 166 [l0, l1, l2, l3] [vI (x1 + x0), vR z2, vR z3] h Q := Rn_nx pg80 rfl rfl
theorem sX1_next_166 (hk : 43 ≤ hK h a1) (hk2 : hK h a1 ≤ 45) (hx : ¬ (x0 < 0 ∨ hL h a1 ≤ x0.toNatClampNeg)) : Rn r 80 166 [l0, l1, l2, l3] [vI x0, vR (some a1), vR z2] h Q ↔ Rn r 80 167 [l0, l1, l2, l3] [vI (hI h a1 x0.toNatClampNeg), vR z2] h Q := Rn_nx pg80 rfl ((if_pos ⟨hk, hk2⟩).trans (if_neg hx))
theorem sX1_next_167 : Rn r 80 167 [l0, l1, l2, l3] [vI x0, vR z1] h Q ↔ Rn r 80 168 [l0, l1, l2, l3] [vI (x0.toUInt32 % 65536).toInt32, vR z1] h Q := Rn_nx pg80 rfl rfl
theorem sX1_next_168 (hk : hK h a1 = 16) : Rn r 80 168 [l0, l1, l2, l3] [vI x0, vR (some a1)] h Q ↔ Cl r 64 [vR (some a1), vI x0] h (Kt r 80 171 [l0, l1, l2, l3] [] Q) := Rn_call pg80 rfl (by simp only [am_exec, am_inv, am_pop, am_lk, hk]; rfl) pg64 rfl rfl rfl
theorem sX1_next_171 : Rn r 80 171 [l0, l1, l2, l3] [vR z0] h Q ↔ Rn r 80 172 [l0, l1, l2, l3] [] h Q := Rn_nx pg80 rfl rfl
theorem sX1_next_172 : Rn r 80 172 [l0, l1, l2, some (vI x)] [] h Q ↔ Rn r 80 175 [l0, l1, l2, some (vI (x + 1))] [] h Q := Rn_nx pg80 rfl rfl
theorem sX1_next_175 : Rn r 80 175 [l0, l1, l2, l3] [] h Q ↔ Rn r 80 150 [l0, l1, l2, l3] [] h Q := Rn_nx pg80 rfl rfl
theorem sX1_next_178 : Rn r 80 178 [some (vR z), l1, l2, l3] [] h Q ↔ Rn r 80 179 [some (vR z), l1, l2, l3] [vR z] h Q := Rn_nx pg80 rfl rfl
theorem sX1_next_179 : Rn r 80 179 [l0, l1, some (vR z), l3] [vR z0] h Q ↔ Rn r 80 180 [l0, l1, some (vR z), l3] [vR z, vR z0] h Q := Rn_nx pg80 rfl rfl
theorem sX1_next_180 (hk : hK h a0 = 16) : Rn r 80 180 [l0, l1, l2, l3] [vR (some a0), vR z1] h Q ↔ Cl r 65 [vR (some a0)] h (Kt r 80 183 [l0, l1, l2, l3] [vR z1] Q) := Rn_call pg80 rfl (by simp only [am_exec, am_inv, am_pop, am_lk, hk]; rfl) pg65 rfl rfl rfl
theorem sX1_next_183 (hk : hK h a1 = 2) : Rn r 80 183 [l0, l1, l2, l3] [vR z0, vR (some a1)] h Q ↔ Rn r 80 186 [l0, l1, l2, l3] [] (putR h a1 5 z0) Q := Rn_nx pg80 rfl ((if_pos ⟨(hk ▸ Nat.le_refl _), (hk ▸ Nat.le_refl _)⟩).trans rfl)
theorem sX1_next_186 : Rn r 80 186 [some (vR z), l1, l2, l3] [] h Q ↔ Rn r 80 187 [some (vR z), l1, l2, l3] [vR z] h Q := Rn_nx pg80 rfl rfl
theorem sX1_next_187 : Rn r 80 187 [l0, l1, l2, l3] [vR z0] h Q ↔ Rn r 80 188 [l0, l1, l2, l3] [vI 0, vR z0] h Q := Rn_nx pg80 rfl rfl
theorem sX1_next_188 (hk : hK h a1 = 2) : Rn r 80 188 [l0, l1, l2, l3] [vI x0, vR (some a1)] h Q ↔ Rn r 80 191 [l0, l1, l2, l3] [] (putI h a1 6 x0) Q := Rn_nx pg80 rfl ((if_pos ⟨(hk ▸ Nat.le_refl _), (hk ▸ Nat.le_refl _)⟩).trans rfl)
theorem sX1_next_191 : Rn r 80 191 [some (vR z), l1, l2, l3] [] h Q ↔ Rn r 80 192 [some (vR z), l1, l2, l3] [vR z] h Q := Rn_nx pg80 rfl rfl
theorem sX1_next_192 : Rn r 80 192 [l0, l1, l2, l3] [vR z0] h Q ↔ Rn r 80 193 [l0, l1, l2, l3] [vR z0, vR z0] h Q := Rn_nx pg80 rfl rfl
theorem sX1_next_193 (hk : hK h a0 = 2) : Rn r 80 193 [l0, l1, l2, l3] [vR (some a0), vR z1] h Q ↔ Rn r 80 196 [l0, l1, l2, l3] [vI (hI h a0 3), vR z1] h Q := Rn_nx pg80 rfl (if_pos ⟨(hk ▸ Nat.le_refl _), (hk ▸ Nat.le_refl _)⟩)
theorem sX1_next_196 : Rn r 80 196 [l0, some (vI x), l2, l3] [vI x0, vR z1] h Q ↔ Rn r 80 197 [l0, some (vI x), l2, l3] [vI x, vI x0, vR z1] h Q := Rn_nx pg80 rfl rfl
theorem sX1_next_197 : Rn r 80 197 [l0, l1, l2, l3] [vI x0, vI x1, vR z2] h Q ↔ Rn r 80 198 [l0, l1, l2, l3] [vI (x1 + x0), vR z2] h Q := Rn_nx pg80 rfl rfl
theorem sX1_next_198 (hk : hK h a1 = 2) : Rn r 80 198 [l0, l1, l2, l3] [vI x0, vR (some a1)] h Q ↔ Rn r 80 201 [l0, l1, l2, l3] [] (putI h a1 3 x0) Q := Rn_nx pg80 rfl ((if_pos ⟨(hk ▸ Nat.le_refl _), (hk ▸ Nat.le_refl _)⟩).trans rfl)
theorem sX1_next_201 : Rn r 80 201 [l0, l1, l2, l3] [] h Q ↔ Rn r 80 248 [l0, l1, l2, l3] [] h Q := Rn_nx pg80 rfl rfl
theorem sX1_next_204 : Rn r 80 204 [some (vR z), l1, l2, l3] [] h Q ↔ Rn r 80 205 [some (vR z), l1, l2, l3] [vR z] h Q := Rn_nx pg80 rfl rfl
theorem sX1_next_205 : Rn r 80 205 [some (vR z), l1, l2, l3] [vR z0] h Q ↔ Rn r 80 206 [some (vR z), l1, l2, l3] [vR z, vR z0] h Q := Rn_nx pg80 rfl rfl
theorem sX1_next_206 (hk : hK h a0 = 2) : Rn r 80 206 [l0, l1, l2, l3] [vR (some a0), vR z1] h Q ↔ Rn r 80 209 [l0, l1, l2, l3] [vR (hR h a0 1), vR z1] h Q := Rn_nx pg80 rfl (if_pos ⟨(hk ▸ Nat.le_refl _), (hk ▸ Nat.le_refl _)⟩)
theorem sX1_next_209 : Rn r 80 209 [some (vR z), l1, l2, l3] [vR z0, vR z1] h Q ↔ Rn r 80 210 [some (vR z), l1, l2, l3] [vR z, vR z0, vR z1] h Q := Rn_nx pg80 rfl rfl
theorem sX1_next_210 (hk : hK h a0 = 2) : Rn r 80 210 [l0, l1, l2, l3] [vR (some a0), vR z1, vR z2] h Q ↔ Rn r 80 213 [l0, l1, l2, l3] [vI (hI h a0 3), vR z1, vR z2] h Q := Rn_nx pg80 rfl (if_pos ⟨(hk ▸ Nat.le_refl _), (hk ▸ Nat.le_refl _)⟩)
theorem sX1_next_213 (hk : 43 ≤ hK h a1) (hk2 : hK h a1 ≤ 45) (hx : ¬ (x0 < 0 ∨ hL h a1 ≤ x0.toNatClampNeg)) : Rn r 80 213 [l0, l1, l2, l3] [vI x0, vR (some a1), vR z2] h Q ↔ Rn r 80 214 [l0, l1, l2, l3] [vI (hI h a1 x0.toNatClampNeg), vR z2] h Q := Rn_nx pg80 rfl ((if_pos ⟨hk, hk2⟩).trans (if_neg hx))
theorem sX1_next_214 (hk : hK h a1 = 2) : Rn r 80 214 [l0, l1, l2, l3] [vI x0, vR (some a1)] h Q ↔ Rn r 80 217 [l0, l1, l2, l3] [] (putI h a1 6 x0) Q := Rn_nx pg80 rfl ((if_pos ⟨(hk ▸ Nat.le_refl _), (hk ▸ Nat.le_refl _)⟩).trans rfl)
theorem sX1_next_217 : Rn r 80 217 [l0, l1, l2, l3] [] h Q ↔ Rn r 80 219 [l0, l1, l2, l3] [vR (some (hE h 4))] h Q := Rn_nx pg80 rfl rfl
theorem sX1_next_219 : Rn r 80 219 [some (vR z), l1, l2, l3] [vR z0] h Q ↔ Rn r 80 220 [some (vR z), l1, l2, l3] [vR z, vR z0] h Q := Rn_nx pg80 rfl rfl
theorem sX1_next_220 (hk : hK h a0 = 2) : Rn r 80 220 [l0, l1, l2, l3] [vR (some a0), vR z1] h Q ↔ Rn r 80 223 [l0, l1, l2, l3] [vI (hI h a0 6), vR z1] h Q := Rn_nx pg80 rfl (if_pos ⟨(hk ▸ Nat.le_refl _), (hk ▸ Nat.le_refl _)⟩)
theorem sX1_next_223 (hk : 10 ≤ hK h a1) (hk2 : hK h a1 ≤ 11) : Rn r 80 223 [l0, l1, l2, l3] [vI x0, vR (some a1)] h Q ↔ Cl r 124 [vR (some a1), vI x0] h (Kt r 80 226 [l0, l1, l2, l3] [] Q) := Rn_call pg80 rfl (by rcases am_rng2 hk hk2 with q | q <;> simp only [am_exec, am_inv, am_pop, am_lk, q] <;> rfl) pg124 rfl rfl rfl
theorem sX1_next_226 : Rn r 80 226 [l0, l1, l2, l3] [vI x0] h Q ↔ if 0 ≤ x0 then Rn r 80 238 [l0, l1, l2, l3] [] h Q else Rn r 80 229 [l0, l1, l2, l3] [] h Q := Rn_if pg80 rfl rfl rfl
theorem sX1_next_229 : Rn r 80 229 [some (vR z), l1, l2, l3] [] h Q ↔ Rn r 80 230 [some (vR z), l1, l2, l3] [vR z] h Q := Rn_nx pg80 rfl rfl
theorem sX1_next_230 : Rn r 80 230 [some (vR z), l1, l2, l3] [vR z0] h Q ↔ Rn r 80 231 [some (vR z), l1, l2, l3] [vR z, vR z0] h Q := Rn_nx pg80 rfl rfl
theorem sX1_next_231 (hk : hK h a0 = 2) : Rn r 80 231 [l0, l1, l2, l3] [vR (some a0), vR z1] h Q ↔ Rn r 80 234 [l0, l1, l2, l3] [vI (hI h a0 4), vR z1] h Q := Rn_nx pg80 rfl (if_pos ⟨(hk ▸ Nat.le_refl _), (hk ▸ Nat.le_refl _)⟩)
theorem sX1_next_234 (hk : hK h a1 = 2) : Rn r 80 234 [l0, l1, l2, l3] [vI x0, vR (some a1)] h Q ↔ Cl r 123 [vR (some a1), vI x0] h (Kt r 80 237 [l0, l1, l2, l3] [] Q) := Rn_call pg80 rfl (by simp only [am_exec, am_inv, am_pop, am_lk, hk]; rfl) pg123 rfl rfl rfl
theorem sX1_next_237 (hk : hK h a0 = 3) : Rn r 80 237 [l0, l1, l2, l3] [vR (some a0)] h Q ↔ Q (Sum.inr a0) h := Rn_end pg80 rfl (if_pos hk)
theorem sX1_next_238 : Rn r 80 238 [some (vR z), l1, l2, l3] [] h Q ↔ Rn r 80 239 [some (vR z), l1, l2, l3] [vR z] h Q := Rn_nx pg80 rfl rfl
theorem sX1_next_239 : Rn r 80 239 [l0, l1, l2, l3] [vR z0] h Q ↔ Rn r 80 240 [l0, l1, l2, l3] [vR z0, vR z0] h Q := Rn_nx pg80 rfl rfl
theorem sX1_next_240 (hk : hK h a0 = 2) : Rn r 80 240 [l0, l1, l2, l3] [vR (some a0), vR z1] h Q ↔ Rn r 80 243 [l0, l1, l2, l3] [vI (hI h a0 3), vR z1] h Q := Rn_nx pg80 rfl (if_pos ⟨(hk ▸ Nat.le_refl _), (hk ▸ Nat.le_refl _)⟩)
theorem sX1_next_243 : Rn r 80 243 [l0, l1, l2, l3] [vI x0, vR z1] h Q ↔ Rn r 80 244 [l0, l1, l2, l3] [vI 1, vI x0, vR z1] h Q := Rn_nx pg80 rfl rfl
theorem sX1_next_244 : Rn r 80 244 [l0, l1, l2, l3] [vI x0, vI x1, vR z2] h Q ↔ Rn r 80 245 [l0, l1, l2, l3] [vI (x1 + x0), vR z2] h Q := Rn_nx pg80 rfl rfl
theorem sX1_next_245 (hk : hK h a1 = 2) : Rn r 80 245 [l0, l1, l2, l3] [vI x0, vR (some a1)] h Q ↔ Rn r 80 248 [l0, l1, l2, l3] [] (putI h a1 3 x0) Q := Rn_nx pg80 rfl ((if_pos ⟨(hk ▸ Nat.le_refl _), (hk ▸ Nat.le_refl _)⟩).trans rfl)
theorem sX1_next_248 : Rn r 80 248 [l0, l1, l2, l3] [] h Q ↔ Q (Sum.inl none) h := Rn_end pg80 rfl rfl
/-! 81 ThrowRules$Reader.isWord(Ljava/lang/String;)Z -/
theorem eX1_isWord : Cl r 81 [vR z0, vR z1] h Q ↔ Rn r 81 0 [some (vR z0), some (vR z1)] [] h Q := Cl_in pg81 rfl
theorem sX1_isWord_0 : Rn r 81 0 [l0, some (vR z)] [] h Q ↔ Rn r 81 1 [l0, some (vR z)] [vR z] h Q := Rn_nx pg81 rfl rfl
theorem sX1_isWord_1 : Rn r 81 1 [some (vR z), l1] [vR z0] h Q ↔ Rn r 81 2 [some (vR z), l1] [vR z, vR z0] h Q := Rn_nx pg81 rfl rfl
theorem sX1_isWord_2 (hk : hK h a0 = 2) : Rn r 81 2 [l0, l1] [vR (some a0), vR z1] h Q ↔ Rn r 81 5 [l0, l1] [vR (hR h a0 5), vR z1] h Q := Rn_nx pg81 rfl (if_pos ⟨(hk ▸ Nat.le_refl _), (hk ▸ Nat.le_refl _)⟩)
theorem sX1_isWord_5 (hk : 10 ≤ hK h a1) (hk2 : hK h a1 ≤ 11) : Rn r 81 5 [l0, l1] [vR z0, vR (some a1)] h Q ↔ Cl r 125 [vR (some a1), vR z0] h (Kt r 81 8 [l0, l1] [] Q) := Rn_call pg81 rfl (by rcases am_rng2 hk hk2 with q | q <;> simp only [am_exec, am_inv, am_pop, am_lk, q] <;> rfl) pg125 rfl rfl rfl
theorem sX1_isWord_8 (hf : am_fit 4 x0 = true) : Rn r 81 8 [l0, l1] [vI x0] h Q ↔ Q (Sum.inl (some (vI x0))) h := Rn_end pg81 rfl (if_pos hf)
/-! 82 ThrowRules$Reader.kind()V -/
theorem eX1_kind : Cl r 82 [vR z0] h Q ↔ Rn r 82 0 [some (vR z0), none, none, none, none, none] [] h Q := Cl_in pg82 rfl
theorem sX1_kind_0 : Rn r 82 0 [some (vR z), l1, l2, l3, l4, l5] [] h Q ↔ Rn r 82 1 [some (vR z), l1, l2, l3, l4, l5] [vR z] h Q := Rn_nx pg82 rfl rfl
theorem sX1_kind_1 : Rn r 82 1 [some (vR z), l1, l2, l3, l4, l5] [vR z0] h Q ↔ Rn r 82 2 [some (vR z), l1, l2, l3, l4, l5] [vR z, vR z0] h Q := Rn_nx pg82 rfl rfl
theorem sX1_kind_2 (hk : hK h a0 = 2) : Rn r 82 2 [l0, l1, l2, l3, l4, l5] [vR (some a0), vR z1] h Q ↔ Rn r 82 5 [l0, l1, l2, l3, l4, l5] [vR (hR h a0 7), vR z1] h Q := Rn_nx pg82 rfl (if_pos ⟨(hk ▸ Nat.le_refl _), (hk ▸ Nat.le_refl _)⟩)
theorem sX1_kind_5 (hk : hK h a0 = 5) : Rn r 82 5 [l0, l1, l2, l3, l4, l5] [vR (some a0), vR z1] h Q ↔ Rn r 82 8 [l0, l1, l2, l3, l4, l5] [vR (hR h a0 0), vR z1] h Q := Rn_nx pg82 rfl (if_pos ⟨(hk ▸ Nat.le_refl _), (hk ▸ Nat.le_refl _)⟩)
theorem sX1_kind_8 (hk : hK h a0 = 4) : Rn r 82 8 [l0, l1, l2, l3, l4, l5] [vR (some a0), vR z1] h Q ↔ Cl r 34 [vR (some a0)] h (Kt r 82 11 [l0, l1, l2, l3, l4, l5] [vR z1] Q) := Rn_call pg82 rfl (by simp only [am_exec, am_inv, am_pop, am_lk, hk]; rfl) pg34 rfl rfl rfl
theorem sX1_kind_11 : Rn r 82 11 [l0, l1, l2, l3, l4, l5] [vI x0, vR z1] h Q ↔ Rn r 82 13 [l0, l1, l2, l3, l4, l5] [vI 16, vI x0, vR z1] h Q := Rn_nx pg82 rfl rfl
theorem sX1_kind_13 : Rn r 82 13 [l0, l1, l2, l3, l4, l5] [vI x0, vI x1, vR z2] h Q ↔ if x0 ≤ x1 then Rn r 82 20 [l0, l1, l2, l3, l4, l5] [vR z2] h Q else Rn r 82 16 [l0, l1, l2, l3, l4, l5] [vR z2] h Q := Rn_if pg82 rfl rfl rfl
theorem sX1_kind_16 : Rn r 82 16 [l0, l1, l2, l3, l4, l5] [vR z0] h Q ↔ Rn r 82 17 [l0, l1, l2, l3, l4, l5] [vI 1, vR z0] h Q := Rn_nx pg82 rfl rfl
theorem sX1_kind_17 : Rn r 82 17 [l0, l1, l2, l3, l4, l5] [vI x0, vR z1] h Q ↔ Rn r 82 21 [l0, l1, l2, l3, l4, l5] [vI x0, vR z1] h Q := Rn_nx pg82 rfl rfl
theorem sX1_kind_20 : Rn r 82 20 [l0, l1, l2, l3, l4, l5] [vR z0] h Q ↔ Rn r 82 21 [l0, l1, l2, l3, l4, l5] [vI 0, vR z0] h Q := Rn_nx pg82 rfl rfl
theorem sX1_kind_21 (hk : hK h a1 = 2) : Rn r 82 21 [l0, l1, l2, l3, l4, l5] [vI x0, vR (some a1)] h Q ↔ Cl r 83 [vR (some a1), vI x0] h (Kt r 82 24 [l0, l1, l2, l3, l4, l5] [] Q) := Rn_call pg82 rfl (by simp only [am_exec, am_inv, am_pop, am_lk, hk]; rfl) pg83 rfl rfl rfl
theorem sX1_kind_24 : Rn r 82 24 [some (vR z), l1, l2, l3, l4, l5] [] h Q ↔ Rn r 82 25 [some (vR z), l1, l2, l3, l4, l5] [vR z] h Q := Rn_nx pg82 rfl rfl
theorem sX1_kind_25 (hk : hK h a0 = 2) : Rn r 82 25 [l0, l1, l2, l3, l4, l5] [vR (some a0)] h Q ↔ Cl r 80 [vR (some a0)] h (Kt r 82 28 [l0, l1, l2, l3, l4, l5] [] Q) := Rn_call pg82 rfl (by simp only [am_exec, am_inv, am_pop, am_lk, hk]; rfl) pg80 rfl rfl rfl
theorem sX1_kind_28 : Rn r 82 28 [some (vR z), l1, l2, l3, l4, l5] [] h Q ↔ Rn r 82 29 [some (vR z), l1, l2, l3, l4, l5] [vR z] h Q := Rn_nx pg82 rfl rfl
theorem sX1_kind_29 (hk : hK h a0 = 2) : Rn r 82 29 [l0, l1, l2, l3, l4, l5] [vR (some a0)] h Q ↔ Cl r 126 [vR (some a0)] h (Kt r 82 32 [l0, l1, l2, l3, l4, l5] [] Q) := Rn_call pg82 rfl (by simp only [am_exec, am_inv, am_pop, am_lk, hk]; rfl) pg126 rfl rfl rfl
theorem sX1_kind_32 : Rn r 82 32 [l0, l1, l2, l3, l4, l5] [vR z0] h Q ↔ Rn r 82 33 [l0, some (vR z0), l2, l3, l4, l5] [] h Q := Rn_nx pg82 rfl rfl
theorem sX1_kind_33 : Rn r 82 33 [some (vR z), l1, l2, l3, l4, l5] [] h Q ↔ Rn r 82 34 [some (vR z), l1, l2, l3, l4, l5] [vR z] h Q := Rn_nx pg82 rfl rfl
theorem sX1_kind_34 (hk : hK h a0 = 2) : Rn r 82 34 [l0, l1, l2, l3, l4, l5] [vR (some a0)] h Q ↔ Rn r 82 37 [l0, l1, l2, l3, l4, l5] [vI (hI h a0 14)] h Q := Rn_nx pg82 rfl (if_pos ⟨(hk ▸ Nat.le_refl _), (hk ▸ Nat.le_refl _)⟩)
theorem sX1_kind_37 : Rn r 82 37 [l0, l1, l2, l3, l4, l5] [vI x0] h Q ↔ Rn r 82 38 [l0, l1, some (vI x0), l3, l4, l5] [] h Q := Rn_nx pg82 rfl rfl
theorem sX1_kind_38 : Rn r 82 38 [some (vR z), l1, l2, l3, l4, l5] [] h Q ↔ Rn r 82 39 [some (vR z), l1, l2, l3, l4, l5] [vR z] h Q := Rn_nx pg82 rfl rfl
theorem sX1_kind_39 : Rn r 82 39 [l0, l1, l2, l3, l4, l5] [vR z0] h Q ↔ Rn r 82 41 [l0, l1, l2, l3, l4, l5] [vR (some (hE h 8)), vR z0] h Q := Rn_nx pg82 rfl rfl
theorem sX1_kind_41 (hk : hK h a1 = 2) : Rn r 82 41 [l0, l1, l2, l3, l4, l5] [vR z0, vR (some a1)] h Q ↔ Cl r 127 [vR (some a1), vR z0] h (Kt r 82 44 [l0, l1, l2, l3, l4, l5] [] Q) := Rn_call pg82 rfl (by simp only [am_exec, am_inv, am_pop, am_lk, hk]; rfl) pg127 rfl rfl rfl
theorem sX1_kind_44 : Rn r 82 44 [some (vR z), l1, l2, l3, l4, l5] [] h Q ↔ Rn r 82 45 [some (vR z), l1, l2, l3, l4, l5] [vR z] h Q := Rn_nx pg82 rfl rfl
theorem sX1_kind_45 (hk : hK h a0 = 2) : Rn r 82 45 [l0, l1, l2, l3, l4, l5] [vR (some a0)] h Q ↔ Cl r 126 [vR (some a0)] h (Kt r 82 48 [l0, l1, l2, l3, l4, l5] [] Q) := Rn_call pg82 rfl (by simp only [am_exec, am_inv, am_pop, am_lk, hk]; rfl) pg126 rfl rfl rfl
theorem sX1_kind_48 : Rn r 82 48 [l0, l1, l2, l3, l4, l5] [vR z0] h Q ↔ Rn r 82 49 [l0, l1, l2, some (vR z0), l4, l5] [] h Q := Rn_nx pg82 rfl rfl
theorem sX1_kind_49 : Rn r 82 49 [some (vR z), l1, l2, l3, l4, l5] [] h Q ↔ Rn r 82 50 [some (vR z), l1, l2, l3, l4, l5] [vR z] h Q := Rn_nx pg82 rfl rfl
theorem sX1_kind_50 (hk : hK h a0 = 2) : Rn r 82 50 [l0, l1, l2, l3, l4, l5] [vR (some a0)] h Q ↔ Rn r 82 53 [l0, l1, l2, l3, l4, l5] [vI (hI h a0 14)] h Q := Rn_nx pg82 rfl (if_pos ⟨(hk ▸ Nat.le_refl _), (hk ▸ Nat.le_refl _)⟩)
theorem sX1_kind_53 : Rn r 82 53 [l0, l1, l2, l3, l4, l5] [vI x0] h Q ↔ Rn r 82 55 [l0, l1, l2, l3, some (vI x0), l5] [] h Q := Rn_nx pg82 rfl rfl
theorem sX1_kind_55 : Rn r 82 55 [some (vR z), l1, l2, l3, l4, l5] [] h Q ↔ Rn r 82 56 [some (vR z), l1, l2, l3, l4, l5] [vR z] h Q := Rn_nx pg82 rfl rfl
theorem sX1_kind_56 : Rn r 82 56 [l0, l1, l2, l3, l4, l5] [vR z0] h Q ↔ Rn r 82 58 [l0, l1, l2, l3, l4, l5] [vI 59, vR z0] h Q := Rn_nx pg82 rfl rfl
theorem sX1_kind_58 (hk : hK h a1 = 2) : Rn r 82 58 [l0, l1, l2, l3, l4, l5] [vI x0, vR (some a1)] h Q ↔ Cl r 128 [vR (some a1), vI x0] h (Kt r 82 61 [l0, l1, l2, l3, l4, l5] [] Q) := Rn_call pg82 rfl (by simp only [am_exec, am_inv, am_pop, am_lk, hk]; rfl) pg128 rfl rfl rfl
theorem sX1_kind_61 : Rn r 82 61 [some (vR z), l1, l2, l3, l4, l5] [] h Q ↔ Rn r 82 62 [some (vR z), l1, l2, l3, l4, l5] [vR z] h Q := Rn_nx pg82 rfl rfl
theorem sX1_kind_62 : Rn r 82 62 [l0, l1, l2, some (vR z), l4, l5] [vR z0] h Q ↔ Rn r 82 63 [l0, l1, l2, some (vR z), l4, l5] [vR z, vR z0] h Q := Rn_nx pg82 rfl rfl
theorem sX1_kind_63 : Rn r 82 63 [l0, l1, l2, l3, some (vI x), l5] [vR z0, vR z1] h Q ↔ Rn r 82 65 [l0, l1, l2, l3, some (vI x), l5] [vI x, vR z0, vR z1] h Q := Rn_nx pg82 rfl rfl
theorem sX1_kind_65 (hk : hK h a2 = 2) : Rn r 82 65 [l0, l1, l2, l3, l4, l5] [vI x0, vR z1, vR (some a2)] h Q ↔ Cl r 129 [vR (some a2), vR z1, vI x0] h (Kt r 82 68 [l0, l1, l2, l3, l4, l5] [] Q) := Rn_call pg82 rfl (by simp only [am_exec, am_inv, am_pop, am_lk, hk]; rfl) pg129 rfl rfl rfl
theorem sX1_kind_68 : Rn r 82 68 [l0, l1, l2, l3, l4, l5] [vR z0] h Q ↔ Rn r 82 70 [l0, l1, l2, l3, l4, some (vR z0)] [] h Q := Rn_nx pg82 rfl rfl
theorem sX1_kind_70 : Rn r 82 70 [some (vR z), l1, l2, l3, l4, l5] [] h Q ↔ Rn r 82 71 [some (vR z), l1, l2, l3, l4, l5] [vR z] h Q := Rn_nx pg82 rfl rfl
theorem sX1_kind_71 (hk : hK h a0 = 2) : Rn r 82 71 [l0, l1, l2, l3, l4, l5] [vR (some a0)] h Q ↔ Rn r 82 74 [l0, l1, l2, l3, l4, l5] [vR (hR h a0 7)] h Q := Rn_nx pg82 rfl (if_pos ⟨(hk ▸ Nat.le_refl _), (hk ▸ Nat.le_refl _)⟩)
theorem sX1_kind_74 (hk : hK h a0 = 5) : Rn r 82 74 [l0, l1, l2, l3, l4, l5] [vR (some a0)] h Q ↔ Rn r 82 77 [l0, l1, l2, l3, l4, l5] [vR (hR h a0 1)] h Q := Rn_nx pg82 rfl (if_pos ⟨(hk ▸ Nat.le_refl _), (hk ▸ Nat.le_refl _)⟩)
theorem sX1_kind_77 : Rn r 82 77 [l0, some (vR z), l2, l3, l4, l5] [vR z0] h Q ↔ Rn r 82 78 [l0, some (vR z), l2, l3, l4, l5] [vR z, vR z0] h Q := Rn_nx pg82 rfl rfl
theorem sX1_kind_78 (hk : hK h a1 = 6) : Rn r 82 78 [l0, l1, l2, l3, l4, l5] [vR z0, vR (some a1)] h Q ↔ Cl r 120 [vR (some a1), vR z0] h (Kt r 82 81 [l0, l1, l2, l3, l4, l5] [] Q) := Rn_call pg82 rfl (by simp only [am_exec, am_inv, am_pop, am_lk, hk]; rfl) pg120 rfl rfl rfl
theorem sX1_kind_81 : Rn r 82 81 [l0, l1, l2, l3, l4, l5] [vI x0] h Q ↔ if x0 = 0 then Rn r 82 94 [l0, l1, l2, l3, l4, l5] [] h Q else Rn r 82 84 [l0, l1, l2, l3, l4, l5] [] h Q := Rn_if pg82 rfl rfl rfl
theorem sX1_kind_84 : Rn r 82 84 [some (vR z), l1, l2, l3, l4, l5] [] h Q ↔ Rn r 82 85 [some (vR z), l1, l2, l3, l4, l5] [vR z] h Q := Rn_nx pg82 rfl rfl
theorem sX1_kind_85 (hk : hK h a0 = 2) : Rn r 82 85 [l0, l1, l2, l3, l4, l5] [vR (some a0)] h Q ↔ Rn r 82 88 [l0, l1, l2, l3, l4, l5] [vR (hR h a0 7)] h Q := Rn_nx pg82 rfl (if_pos ⟨(hk ▸ Nat.le_refl _), (hk ▸ Nat.le_refl _)⟩)
theorem sX1_kind_88 : Rn r 82 88 [l0, l1, l2, l3, l4, l5] [vR z0] h Q ↔ Rn r 82 89 [l0, l1, l2, l3, l4, l5] [vI 2, vR z0] h Q := Rn_nx pg82 rfl rfl
theorem sX1_kind_89 : Rn r 82 89 [l0, l1, some (vI x), l3, l4, l5] [vI x0, vR z1] h Q ↔ Rn r 82 90 [l0, l1, some (vI x), l3, l4, l5] [vI x, vI x0, vR z1] h Q := Rn_nx pg82 rfl rfl
theorem sX1_kind_90 : Rn r 82 90 [l0, l1, l2, l3, l4, l5] [vI x0, vI x1, vR z2] h Q ↔ Rn r 82 91 [l0, l1, l2, l3, l4, l5] [vI (-1), vI x0, vI x1, vR z2] h Q := Rn_nx pg82 rfl rfl
theorem sX1_kind_91 (hk : hK h a3 = 5) : Rn r 82 91 [l0, l1, l2, l3, l4, l5] [vI x0, vI x1, vI x2, vR (some a3)] h Q ↔ Cl r 130 [vR (some a3), vI x2, vI x1, vI x0] h (Kt r 82 94 [l0, l1, l2, l3, l4, l5] [] Q) := Rn_call pg82 rfl (by simp only [am_exec, am_inv, am_pop, am_lk, hk]; rfl) pg130 rfl rfl rfl
theorem sX1_kind_94 : Rn r 82 94 [some (vR z), l1, l2, l3, l4, l5] [] h Q ↔ Rn r 82 95 [some (vR z), l1, l2, l3, l4, l5] [vR z] h Q := Rn_nx pg82 rfl rfl
theorem sX1_kind_95 (hk : hK h a0 = 2) : Rn r 82 95 [l0, l1, l2, l3, l4, l5] [vR (some a0)] h Q ↔ Rn r 82 98 [l0, l1, l2, l3, l4, l5] [vR (hR h a0 7)] h Q := Rn_nx pg82 rfl (if_pos ⟨(hk ▸ Nat.le_refl _), (hk ▸ Nat.le_refl _)⟩)
theorem sX1_kind_98 : Rn r 82 98 [l0, some (vR z), l2, l3, l4, l5] [vR z0] h Q ↔ Rn r 82 99 [l0, some (vR z), l2, l3, l4, l5] [vR z, vR z0] h Q := Rn_nx pg82 rfl rfl
theorem sX1_kind_99 : Rn r 82 99 [l0, l1, l2, l3, l4, some (vR z)] [vR z0, vR z1] h Q ↔ Rn r 82 101 [l0, l1, l2, l3, l4, some (vR z)] [vR z, vR z0, vR z1] h Q := Rn_nx pg82 rfl rfl
theorem sX1_kind_101 : Rn r 82 101 [l0, l1, l2, l3, l4, l5] [vR z0, vR z1, vR z2] h Q ↔ if z0 ≠ none then Rn r 82 121 [l0, l1, l2, l3, l4, l5] [vR z1, vR z2] h Q else Rn r 82 104 [l0, l1, l2, l3, l4, l5] [vR z1, vR z2] h Q := Rn_if pg82 rfl rfl rfl
theorem sX1_kind_104 : Rn r 82 104 [some (vR z), l1, l2, l3, l4, l5] [vR z0, vR z1] h Q ↔ Rn r 82 105 [some (vR z), l1, l2, l3, l4, l5] [vR z, vR z0, vR z1] h Q := Rn_nx pg82 rfl rfl
theorem sX1_kind_105 (hk : hK h a0 = 2) : Rn r 82 105 [l0, l1, l2, l3, l4, l5] [vR (some a0), vR z1, vR z2] h Q ↔ Rn r 82 108 [l0, l1, l2, l3, l4, l5] [vR (hR h a0 7), vR z1, vR z2] h Q := Rn_nx pg82 rfl (if_pos ⟨(hk ▸ Nat.le_refl _), (hk ▸ Nat.le_refl _)⟩)
theorem sX1_kind_108 (hk : hK h a0 = 5) : Rn r 82 108 [l0, l1, l2, l3, l4, l5] [vR (some a0), vR z1, vR z2] h Q ↔ Rn r 82 111 [l0, l1, l2, l3, l4, l5] [vR (hR h a0 0), vR z1, vR z2] h Q := Rn_nx pg82 rfl (if_pos ⟨(hk ▸ Nat.le_refl _), (hk ▸ Nat.le_refl _)⟩)
theorem sX1_kind_111 : Rn r 82 111 [l0, l1, l2, l3, l4, l5] [vR z0, vR z1, vR z2] h Q ↔ Rn r 82 112 [l0, l1, l2, l3, l4, l5] [vI 1, vR z0, vR z1, vR z2] h Q := Rn_nx pg82 rfl rfl
theorem sX1_kind_112 (hk : hK h a1 = 4) : Rn r 82 112 [l0, l1, l2, l3, l4, l5] [vI x0, vR (some a1), vR z2, vR z3] h Q ↔ Cl r 43 [vR (some a1), vI x0] h (Kt r 82 115 [l0, l1, l2, l3, l4, l5] [vR z2, vR z3] Q) := Rn_call pg82 rfl (by simp only [am_exec, am_inv, am_pop, am_lk, hk]; rfl) pg43 rfl rfl rfl
theorem sX1_kind_115_n : Rn r 82 115 [l0, l1, l2, l3, l4, l5] [vR none, vR z1, vR z2] h Q ↔ Rn r 82 118 [l0, l1, l2, l3, l4, l5] [vR none, vR z1, vR z2] h Q := Rn_nx pg82 rfl rfl
theorem sX1_kind_115 (hk : hK h a0 ∈ [7]) : Rn r 82 115 [l0, l1, l2, l3, l4, l5] [vR (some a0), vR z1, vR z2] h Q ↔ Rn r 82 118 [l0, l1, l2, l3, l4, l5] [vR (some a0), vR z1, vR z2] h Q := Rn_nx pg82 rfl (if_pos hk)
theorem sX1_kind_118 : Rn r 82 118 [l0, l1, l2, l3, l4, l5] [vR z0, vR z1, vR z2] h Q ↔ Rn r 82 123 [l0, l1, l2, l3, l4, l5] [vR z0, vR z1, vR z2] h Q := Rn_nx pg82 rfl rfl
theorem sX1_kind_121 : Rn r 82 121 [l0, l1, l2, l3, l4, some (vR z)] [vR z0, vR z1] h Q ↔ Rn r 82 123 [l0, l1, l2, l3, l4, some (vR z)] [vR z, vR z0, vR z1] h Q := Rn_nx pg82 rfl rfl
theorem sX1_kind_123 : Rn r 82 123 [l0, l1, some (vI x), l3, l4, l5] [vR z0, vR z1, vR z2] h Q ↔ Rn r 82 124 [l0, l1, some (vI x), l3, l4, l5] [vI x, vR z0, vR z1, vR z2] h Q := Rn_nx pg82 rfl rfl
theorem sX1_kind_124 (hk : hK h a3 = 5) : Rn r 82 124 [l0, l1, l2, l3, l4, l5] [vI x0, vR z1, vR z2, vR (some a3)] h Q ↔ Cl r 78 [vR (some a3), vR z2, vR z1, vI x0] h (Kt r 82 127 [l0, l1, l2, l3, l4, l5] [] Q) := Rn_call pg82 rfl (by simp only [am_exec, am_inv, am_pop, am_lk, hk]; rfl) pg78 rfl rfl rfl
theorem sX1_kind_127 : Rn r 82 127 [l0, l1, l2, l3, l4, l5] [vR z0] h Q ↔ Rn r 82 128 [l0, l1, l2, l3, l4, l5] [] h Q := Rn_nx pg82 rfl rfl
theorem sX1_kind_128 : Rn r 82 128 [l0, l1, l2, l3, l4, l5] [] h Q ↔ Q (Sum.inl none) h := Rn_end pg82 rfl rfl
/-! 83 ThrowRules$Reader.need(Z)V -/
theorem eX1_need : Cl r 83 [vR z0, vI x1] h Q ↔ Rn r 83 0 [some (vR z0), some (vI x1)] [] h Q := Cl_in pg83 rfl
theorem sX1_need_0 : Rn r 83 0 [l0, some (vI x)] [] h Q ↔ Rn r 83 1 [l0, some (vI x)] [vI x] h Q := Rn_nx pg83 rfl rfl
theorem sX1_need_1 : Rn r 83 1 [l0, l1] [vI x0] h Q ↔ if x0 ≠ 0 then Rn r 83 13 [l0, l1] [] h Q else Rn r 83 4 [l0, l1] [] h Q := Rn_if pg83 rfl rfl rfl
theorem sX1_need_4 : Rn r 83 4 [some (vR z), l1] [] h Q ↔ Rn r 83 5 [some (vR z), l1] [vR z] h Q := Rn_nx pg83 rfl rfl
theorem sX1_need_5 : Rn r 83 5 [some (vR z), l1] [vR z0] h Q ↔ Rn r 83 6 [some (vR z), l1] [vR z, vR z0] h Q := Rn_nx pg83 rfl rfl
theorem sX1_need_6 (hk : hK h a0 = 2) : Rn r 83 6 [l0, l1] [vR (some a0), vR z1] h Q ↔ Rn r 83 9 [l0, l1] [vI (hI h a0 4), vR z1] h Q := Rn_nx pg83 rfl (if_pos ⟨(hk ▸ Nat.le_refl _), (hk ▸ Nat.le_refl _)⟩)
theorem sX1_need_9 (hk : hK h a1 = 2) : Rn r 83 9 [l0, l1] [vI x0, vR (some a1)] h Q ↔ Cl r 123 [vR (some a1), vI x0] h (Kt r 83 12 [l0, l1] [] Q) := Rn_call pg83 rfl (by simp only [am_exec, am_inv, am_pop, am_lk, hk]; rfl) pg123 rfl rfl rfl
theorem sX1_need_12 (hk : hK h a0 = 3) : Rn r 83 12 [l0, l1] [vR (some a0)] h Q ↔ Q (Sum.inr a0) h := Rn_end pg83 rfl (if_pos hk)
theorem sX1_need_13 : Rn r 83 13 [l0, l1] [] h Q ↔ Q (Sum.inl none) h := Rn_end pg83 rfl rfl
/-! 84 ThrowRules$Reader.way()V -/
theorem eX1_way : Cl r 84 [vR z0] h Q ↔ Rn r 84 0 [some (vR z0), none, none, none] [] h Q := Cl_in pg84 rfl
theorem sX1_way_0 : Rn r 84 0 [some (vR z), l1, l2, l3] [] h Q ↔ Rn r 84 1 [some (vR z), l1, l2, l3] [vR z] h Q := Rn_nx pg84 rfl rfl
theorem sX1_way_1 (hk : hK h a0 = 2) : Rn r 84 1 [l0, l1, l2, l3] [vR (some a0)] h Q ↔ Cl r 80 [vR (some a0)] h (Kt r 84 4 [l0, l1, l2, l3] [] Q) := Rn_call pg84 rfl (by simp only [am_exec, am_inv, am_pop, am_lk, hk]; rfl) pg80 rfl rfl rfl
theorem sX1_way_4 : Rn r 84 4 [some (vR z), l1, l2, l3] [] h Q ↔ Rn r 84 5 [some (vR z), l1, l2, l3] [vR z] h Q := Rn_nx pg84 rfl rfl
theorem sX1_way_5 (hk : hK h a0 = 2) : Rn r 84 5 [l0, l1, l2, l3] [vR (some a0)] h Q ↔ Cl r 126 [vR (some a0)] h (Kt r 84 8 [l0, l1, l2, l3] [] Q) := Rn_call pg84 rfl (by simp only [am_exec, am_inv, am_pop, am_lk, hk]; rfl) pg126 rfl rfl rfl
theorem sX1_way_8 : Rn r 84 8 [l0, l1, l2, l3] [vR z0] h Q ↔ Rn r 84 9 [l0, some (vR z0), l2, l3] [] h Q := Rn_nx pg84 rfl rfl
theorem sX1_way_9 : Rn r 84 9 [l0, l1, l2, l3] [] h Q ↔ Rn r 84 12 [l0, l1, l2, l3] [vR (some (hN h))] (newC h 18 9) Q := Rn_nx pg84 rfl rfl
theorem sX1_way_12 : Rn r 84 12 [l0, l1, l2, l3] [vR z0] h Q ↔ Rn r 84 13 [l0, l1, l2, l3] [vR z0, vR z0] h Q := Rn_nx pg84 rfl rfl
theorem sX1_way_13 : Rn r 84 13 [l0, some (vR z), l2, l3] [vR z0, vR z1] h Q ↔ Rn r 84 14 [l0, some (vR z), l2, l3] [vR z, vR z0, vR z1] h Q := Rn_nx pg84 rfl rfl
theorem sX1_way_14 : Rn r 84 14 [some (vR z), l1, l2, l3] [vR z0, vR z1, vR z2] h Q ↔ Rn r 84 15 [some (vR z), l1, l2, l3] [vR z, vR z0, vR z1, vR z2] h Q := Rn_nx pg84 rfl rfl
theorem sX1_way_15 (hk : hK h a0 = 2) : Rn r 84 15 [l0, l1, l2, l3] [vR (some a0), vR z1, vR z2, vR z3] h Q ↔ Rn r 84 18 [l0, l1, l2, l3] [vR (hR h a0 7), vR z1, vR z2, vR z3] h Q := Rn_nx pg84 rfl (if_pos ⟨(hk ▸ Nat.le_refl _), (hk ▸ Nat.le_refl _)⟩)
theorem sX1_way_18 (hk : hK h a0 = 5) : Rn r 84 18 [l0, l1, l2, l3] [vR (some a0), vR z1, vR z2, vR z3] h Q ↔ Rn r 84 21 [l0, l1, l2, l3] [vR (hR h a0 2), vR z1, vR z2, vR z3] h Q := Rn_nx pg84 rfl (if_pos ⟨(hk ▸ Nat.le_refl _), (hk ▸ Nat.le_refl _)⟩)
theorem sX1_way_21 (hk : hK h a0 = 4) : Rn r 84 21 [l0, l1, l2, l3] [vR (some a0), vR z1, vR z2, vR z3] h Q ↔ Cl r 34 [vR (some a0)] h (Kt r 84 24 [l0, l1, l2, l3] [vR z1, vR z2, vR z3] Q) := Rn_call pg84 rfl (by simp only [am_exec, am_inv, am_pop, am_lk, hk]; rfl) pg34 rfl rfl rfl
theorem sX1_way_24 : Rn r 84 24 [some (vR z), l1, l2, l3] [vI x0, vR z1, vR z2, vR z3] h Q ↔ Rn r 84 25 [some (vR z), l1, l2, l3] [vR z, vI x0, vR z1, vR z2, vR z3] h Q := Rn_nx pg84 rfl rfl
theorem sX1_way_25 (hk : hK h a0 = 2) : Rn r 84 25 [l0, l1, l2, l3] [vR (some a0), vI x1, vR z2, vR z3, vR z4] h Q ↔ Rn r 84 28 [l0, l1, l2, l3] [vI (hI h a0 14), vI x1, vR z2, vR z3, vR z4] h Q := Rn_nx pg84 rfl (if_pos ⟨(hk ▸ Nat.le_refl _), (hk ▸ Nat.le_refl _)⟩)
theorem sX1_way_28 (hk : 0 < hK h a3) (hk2 : hK h a3 < 40) : Rn r 84 28 [l0, l1, l2, l3] [vI x0, vI x1, vR z2, vR (some a3), vR z4] h Q ↔ Cl r 131 [vR (some a3), vR z2, vI x1, vI x0] h (Kt r 84 31 [l0, l1, l2, l3] [vR z4] Q) := Rn_call pg84 rfl (if_pos ⟨hk, hk2⟩) pg131 rfl rfl rfl
theorem sX1_way_31 : Rn r 84 31 [l0, l1, l2, l3] [vR z0] h Q ↔ Rn r 84 32 [l0, l1, some (vR z0), l3] [] h Q := Rn_nx pg84 rfl rfl
theorem sX1_way_32 : Rn r 84 32 [some (vR z), l1, l2, l3] [] h Q ↔ Rn r 84 33 [some (vR z), l1, l2, l3] [vR z] h Q := Rn_nx pg84 rfl rfl
theorem sX1_way_33 : Rn r 84 33 [l0, l1, some (vR z), l3] [vR z0] h Q ↔ Rn r 84 34 [l0, l1, some (vR z), l3] [vR z, vR z0] h Q := Rn_nx pg84 rfl rfl
theorem sX1_way_34 (hk : hK h a1 = 2) : Rn r 84 34 [l0, l1, l2, l3] [vR z0, vR (some a1)] h Q ↔ Rn r 84 37 [l0, l1, l2, l3] [] (putR h a1 8 z0) Q := Rn_nx pg84 rfl ((if_pos ⟨(hk ▸ Nat.le_refl _), (hk ▸ Nat.le_refl _)⟩).trans rfl)
theorem sX1_way_37 : Rn r 84 37 [some (vR z), l1, l2, l3] [] h Q ↔ Rn r 84 38 [some (vR z), l1, l2, l3] [vR z] h Q := Rn_nx pg84 rfl rfl
theorem sX1_way_38 (hk : hK h a0 = 2) : Rn r 84 38 [l0, l1, l2, l3] [vR (some a0)] h Q ↔ Rn r 84 41 [l0, l1, l2, l3] [vR (hR h a0 7)] h Q := Rn_nx pg84 rfl (if_pos ⟨(hk ▸ Nat.le_refl _), (hk ▸ Nat.le_refl _)⟩)
theorem sX1_way_41 (hk : hK h a0 = 5) : Rn r 84 41 [l0, l1, l2, l3] [vR (some a0)] h Q ↔ Rn r 84 44 [l0, l1, l2, l3] [vR (hR h a0 3)] h Q := Rn_nx pg84 rfl (if_pos ⟨(hk ▸ Nat.le_refl _), (hk ▸ Nat.le_refl _)⟩)
theorem sX1_way_44 : Rn r 84 44 [l0, some (vR z), l2, l3] [vR z0] h Q ↔ Rn r 84 45 [l0, some (vR z), l2, l3] [vR z, vR z0] h Q := Rn_nx pg84 rfl rfl
theorem sX1_way_45 (hk : hK h a1 = 6) : Rn r 84 45 [l0, l1, l2, l3] [vR z0, vR (some a1)] h Q ↔ Cl r 120 [vR (some a1), vR z0] h (Kt r 84 48 [l0, l1, l2, l3] [] Q) := Rn_call pg84 rfl (by simp only [am_exec, am_inv, am_pop, am_lk, hk]; rfl) pg120 rfl rfl rfl
theorem sX1_way_48 : Rn r 84 48 [l0, l1, l2, l3] [vI x0] h Q ↔ Rn r 84 49 [l0, l1, l2, some (vI x0)] [] h Q := Rn_nx pg84 rfl rfl
theorem sX1_way_49 : Rn r 84 49 [l0, l1, l2, some (vI x)] [] h Q ↔ Rn r 84 50 [l0, l1, l2, some (vI x)] [vI x] h Q := Rn_nx pg84 rfl rfl
theorem sX1_way_50 : Rn r 84 50 [l0, l1, l2, l3] [vI x0] h Q ↔ if x0 = 0 then Rn r 84 66 [l0, l1, l2, l3] [] h Q else Rn r 84 53 [l0, l1, l2, l3] [] h Q := Rn_if pg84 rfl rfl rfl
theorem sX1_way_53 : Rn r 84 53 [some (vR z), l1, l2, l3] [] h Q ↔ Rn r 84 54 [some (vR z), l1, l2, l3] [vR z] h Q := Rn_nx pg84 rfl rfl
theorem sX1_way_54 (hk : hK h a0 = 2) : Rn r 84 54 [l0, l1, l2, l3] [vR (some a0)] h Q ↔ Rn r 84 57 [l0, l1, l2, l3] [vR (hR h a0 7)] h Q := Rn_nx pg84 rfl (if_pos ⟨(hk ▸ Nat.le_refl _), (hk ▸ Nat.le_refl _)⟩)
theorem sX1_way_57 : Rn r 84 57 [l0, l1, l2, l3] [vR z0] h Q ↔ Rn r 84 58 [l0, l1, l2, l3] [vI 2, vR z0] h Q := Rn_nx pg84 rfl rfl
theorem sX1_way_58 : Rn r 84 58 [some (vR z), l1, l2, l3] [vI x0, vR z1] h Q ↔ Rn r 84 59 [some (vR z), l1, l2, l3] [vR z, vI x0, vR z1] h Q := Rn_nx pg84 rfl rfl
theorem sX1_way_59 (hk : hK h a0 = 2) : Rn r 84 59 [l0, l1, l2, l3] [vR (some a0), vI x1, vR z2] h Q ↔ Rn r 84 62 [l0, l1, l2, l3] [vI (hI h a0 14), vI x1, vR z2] h Q := Rn_nx pg84 rfl (if_pos ⟨(hk ▸ Nat.le_refl _), (hk ▸ Nat.le_refl _)⟩)
theorem sX1_way_62 : Rn r 84 62 [l0, l1, l2, l3] [vI x0, vI x1, vR z2] h Q ↔ Rn r 84 63 [l0, l1, l2, l3] [vI (-1), vI x0, vI x1, vR z2] h Q := Rn_nx pg84 rfl rfl
theorem sX1_way_63 (hk : hK h a3 = 5) : Rn r 84 63 [l0, l1, l2, l3] [vI x0, vI x1, vI x2, vR (some a3)] h Q ↔ Cl r 130 [vR (some a3), vI x2, vI x1, vI x0] h (Kt r 84 66 [l0, l1, l2, l3] [] Q) := Rn_call pg84 rfl (by simp only [am_exec, am_inv, am_pop, am_lk, hk]; rfl) pg130 rfl rfl rfl
theorem sX1_way_66 : Rn r 84 66 [some (vR z), l1, l2, l3] [] h Q ↔ Rn r 84 67 [some (vR z), l1, l2, l3] [vR z] h Q := Rn_nx pg84 rfl rfl
theorem sX1_way_67 (hk : hK h a0 = 2) : Rn r 84 67 [l0, l1, l2, l3] [vR (some a0)] h Q ↔ Rn r 84 70 [l0, l1, l2, l3] [vR (hR h a0 7)] h Q := Rn_nx pg84 rfl (if_pos ⟨(hk ▸ Nat.le_refl _), (hk ▸ Nat.le_refl _)⟩)
theorem sX1_way_70 (hk : hK h a0 = 5) : Rn r 84 70 [l0, l1, l2, l3] [vR (some a0)] h Q ↔ Rn r 84 73 [l0, l1, l2, l3] [vR (hR h a0 2)] h Q := Rn_nx pg84 rfl (if_pos ⟨(hk ▸ Nat.le_refl _), (hk ▸ Nat.le_refl _)⟩)
theorem sX1_way_73 : Rn r 84 73 [l0, l1, some (vR z), l3] [vR z0] h Q ↔ Rn r 84 74 [l0, l1, some (vR z), l3] [vR z, vR z0] h Q := Rn_nx pg84 rfl rfl
theorem sX1_way_74 (hk : hK h a1 = 4) : Rn r 84 74 [l0, l1, l2, l3] [vR z0, vR (some a1)] h Q ↔ Cl r 119 [vR (some a1), vR z0] h (Kt r 84 77 [l0, l1, l2, l3] [] Q) := Rn_call pg84 rfl (by simp only [am_exec, am_inv, am_pop, am_lk, hk]; rfl) pg119 rfl rfl rfl
theorem sX1_way_77 : Rn r 84 77 [l0, l1, l2, l3] [vI x0] h Q ↔ Rn r 84 78 [l0, l1, l2, l3] [] h Q := Rn_nx pg84 rfl rfl
theorem sX1_way_78 : Rn r 84 78 [l0, l1, l2, some (vI x)] [] h Q ↔ Rn r 84 79 [l0, l1, l2, some (vI x)] [vI x] h Q := Rn_nx pg84 rfl rfl
theorem sX1_way_79 : Rn r 84 79 [l0, l1, l2, l3] [vI x0] h Q ↔ if x0 ≠ 0 then Rn r 84 95 [l0, l1, l2, l3] [] h Q else Rn r 84 82 [l0, l1, l2, l3] [] h Q := Rn_if pg84 rfl rfl rfl
theorem sX1_way_82 : Rn r 84 82 [some (vR z), l1, l2, l3] [] h Q ↔ Rn r 84 83 [some (vR z), l1, l2, l3] [vR z] h Q := Rn_nx pg84 rfl rfl
theorem sX1_way_83 (hk : hK h a0 = 2) : Rn r 84 83 [l0, l1, l2, l3] [vR (some a0)] h Q ↔ Rn r 84 86 [l0, l1, l2, l3] [vR (hR h a0 7)] h Q := Rn_nx pg84 rfl (if_pos ⟨(hk ▸ Nat.le_refl _), (hk ▸ Nat.le_refl _)⟩)
theorem sX1_way_86 (hk : hK h a0 = 5) : Rn r 84 86 [l0, l1, l2, l3] [vR (some a0)] h Q ↔ Rn r 84 89 [l0, l1, l2, l3] [vR (hR h a0 3)] h Q := Rn_nx pg84 rfl (if_pos ⟨(hk ▸ Nat.le_refl _), (hk ▸ Nat.le_refl _)⟩)
theorem sX1_way_89 : Rn r 84 89 [l0, some (vR z), l2, l3] [vR z0] h Q ↔ Rn r 84 90 [l0, some (vR z), l2, l3] [vR z, vR z0] h Q := Rn_nx pg84 rfl rfl
theorem sX1_way_90 : Rn r 84 90 [l0, l1, some (vR z), l3] [vR z0, vR z1] h Q ↔ Rn r 84 91 [l0, l1, some (vR z), l3] [vR z, vR z0, vR z1] h Q := Rn_nx pg84 rfl rfl
theorem sX1_way_91 (hk : hK h a2 = 6) : Rn r 84 91 [l0, l1, l2, l3] [vR z0, vR z1, vR (some a2)] h Q ↔ Cl r 121 [vR (some a2), vR z1, vR z0] h (Kt r 84 94 [l0, l1, l2, l3] [] Q) := Rn_call pg84 rfl (by simp only [am_exec, am_inv, am_pop, am_lk, hk]; rfl) pg121 rfl rfl rfl
theorem sX1_way_94 : Rn r 84 94 [l0, l1, l2, l3] [vR z0] h Q ↔ Rn r 84 95 [l0, l1, l2, l3] [] h Q := Rn_nx pg84 rfl rfl
theorem sX1_way_95 : Rn r 84 95 [some (vR z), l1, l2, l3] [] h Q ↔ Rn r 84 96 [some (vR z), l1, l2, l3] [vR z] h Q := Rn_nx pg84 rfl rfl
theorem sX1_way_96 : Rn r 84 96 [l0, l1, l2, l3] [vR z0] h Q ↔ Rn r 84 98 [l0, l1, l2, l3] [vR (some (hE h 10)), vR z0] h Q := Rn_nx pg84 rfl rfl
theorem sX1_way_98 (hk : hK h a1 = 2) : Rn r 84 98 [l0, l1, l2, l3] [vR z0, vR (some a1)] h Q ↔ Cl r 81 [vR (some a1), vR z0] h (Kt r 84 101 [l0, l1, l2, l3] [] Q) := Rn_call pg84 rfl (by simp only [am_exec, am_inv, am_pop, am_lk, hk]; rfl) pg81 rfl rfl rfl
theorem sX1_way_101 : Rn r 84 101 [l0, l1, l2, l3] [vI x0] h Q ↔ if x0 = 0 then Rn r 84 124 [l0, l1, l2, l3] [] h Q else Rn r 84 104 [l0, l1, l2, l3] [] h Q := Rn_if pg84 rfl rfl rfl
theorem sX1_way_104 : Rn r 84 104 [some (vR z), l1, l2, l3] [] h Q ↔ Rn r 84 105 [some (vR z), l1, l2, l3] [vR z] h Q := Rn_nx pg84 rfl rfl
theorem sX1_way_105 (hk : hK h a0 = 2) : Rn r 84 105 [l0, l1, l2, l3] [vR (some a0)] h Q ↔ Cl r 80 [vR (some a0)] h (Kt r 84 108 [l0, l1, l2, l3] [] Q) := Rn_call pg84 rfl (by simp only [am_exec, am_inv, am_pop, am_lk, hk]; rfl) pg80 rfl rfl rfl
theorem sX1_way_108 : Rn r 84 108 [l0, l1, some (vR z), l3] [] h Q ↔ Rn r 84 109 [l0, l1, some (vR z), l3] [vR z] h Q := Rn_nx pg84 rfl rfl
theorem sX1_way_109 : Rn r 84 109 [some (vR z), l1, l2, l3] [vR z0] h Q ↔ Rn r 84 110 [some (vR z), l1, l2, l3] [vR z, vR z0] h Q := Rn_nx pg84 rfl rfl
theorem sX1_way_110 (hk : hK h a0 = 2) : Rn r 84 110 [l0, l1, l2, l3] [vR (some a0), vR z1] h Q ↔ Cl r 126 [vR (some a0)] h (Kt r 84 113 [l0, l1, l2, l3] [vR z1] Q) := Rn_call pg84 rfl (by simp only [am_exec, am_inv, am_pop, am_lk, hk]; rfl) pg126 rfl rfl rfl
theorem sX1_way_113 (hk : hK h a1 = 18) : Rn r 84 113 [l0, l1, l2, l3] [vR z0, vR (some a1)] h Q ↔ Rn r 84 116 [l0, l1, l2, l3] [] (putR h a1 4 z0) Q := Rn_nx pg84 rfl ((if_pos ⟨(hk ▸ Nat.le_refl _), (hk ▸ Nat.le_refl _)⟩).trans rfl)
theorem sX1_way_116 : Rn r 84 116 [l0, l1, some (vR z), l3] [] h Q ↔ Rn r 84 117 [l0, l1, some (vR z), l3] [vR z] h Q := Rn_nx pg84 rfl rfl
theorem sX1_way_117 : Rn r 84 117 [some (vR z), l1, l2, l3] [vR z0] h Q ↔ Rn r 84 118 [some (vR z), l1, l2, l3] [vR z, vR z0] h Q := Rn_nx pg84 rfl rfl
theorem sX1_way_118 (hk : hK h a0 = 2) : Rn r 84 118 [l0, l1, l2, l3] [vR (some a0), vR z1] h Q ↔ Rn r 84 121 [l0, l1, l2, l3] [vI (hI h a0 14), vR z1] h Q := Rn_nx pg84 rfl (if_pos ⟨(hk ▸ Nat.le_refl _), (hk ▸ Nat.le_refl _)⟩)
theorem sX1_way_121 (hk : hK h a1 = 18) : Rn r 84 121 [l0, l1, l2, l3] [vI x0, vR (some a1)] h Q ↔ Rn r 84 124 [l0, l1, l2, l3] [] (putI h a1 5 x0) Q := Rn_nx pg84 rfl ((if_pos ⟨(hk ▸ Nat.le_refl _), (hk ▸ Nat.le_refl _)⟩).trans rfl)
theorem sX1_way_124 : Rn r 84 124 [some (vR z), l1, l2, l3] [] h Q ↔ Rn r 84 125 [some (vR z), l1, l2, l3] [vR z] h Q := Rn_nx pg84 rfl rfl
theorem sX1_way_125 : Rn r 84 125 [l0, l1, l2, l3] [vR z0] h Q ↔ Rn r 84 127 [l0, l1, l2, l3] [vR (some (hE h 11)), vR z0] h Q := Rn_nx pg84 rfl rfl
theorem sX1_way_127 (hk : hK h a1 = 2) : Rn r 84 127 [l0, l1, l2, l3] [vR z0, vR (some a1)] h Q ↔ Cl r 81 [vR (some a1), vR z0] h (Kt r 84 130 [l0, l1, l2, l3] [] Q) := Rn_call pg84 rfl (by simp only [am_exec, am_inv, am_pop, am_lk, hk]; rfl) pg81 rfl rfl rfl
theorem sX1_way_130 : Rn r 84 130 [l0, l1, l2, l3] [vI x0] h Q ↔ if x0 = 0 then Rn r 84 142 [l0, l1, l2, l3] [] h Q else Rn r 84 133 [l0, l1, l2, l3] [] h Q := Rn_if pg84 rfl rfl rfl
theorem sX1_way_133 : Rn r 84 133 [some (vR z), l1, l2, l3] [] h Q ↔ Rn r 84 134 [some (vR z), l1, l2, l3] [vR z] h Q := Rn_nx pg84 rfl rfl
theorem sX1_way_134 (hk : hK h a0 = 2) : Rn r 84 134 [l0, l1, l2, l3] [vR (some a0)] h Q ↔ Cl r 80 [vR (some a0)] h (Kt r 84 137 [l0, l1, l2, l3] [] Q) := Rn_call pg84 rfl (by simp only [am_exec, am_inv, am_pop, am_lk, hk]; rfl) pg80 rfl rfl rfl
theorem sX1_way_137 : Rn r 84 137 [l0, l1, some (vR z), l3] [] h Q ↔ Rn r 84 138 [l0, l1, some (vR z), l3] [vR z] h Q := Rn_nx pg84 rfl rfl
theorem sX1_way_138 : Rn r 84 138 [l0, l1, l2, l3] [vR z0] h Q ↔ Rn r 84 139 [l0, l1, l2, l3] [vI 1, vR z0] h Q := Rn_nx pg84 rfl rfl
theorem sX1_way_139 (hk : hK h a1 = 18) (hf : am_fit 4 x0 = true) : Rn r 84 139 [l0, l1, l2, l3] [vI x0, vR (some a1)] h Q ↔ Rn r 84 142 [l0, l1, l2, l3] [] (putI h a1 3 x0) Q := Rn_nx pg84 rfl ((if_pos ⟨(hk ▸ Nat.le_refl _), (hk ▸ Nat.le_refl _)⟩).trans (if_pos hf))
theorem sX1_way_142 : Rn r 84 142 [l0, l1, some (vR z), l3] [] h Q ↔ Rn r 84 143 [l0, l1, some (vR z), l3] [vR z] h Q := Rn_nx pg84 rfl rfl
theorem sX1_way_143 : Rn r 84 143 [some (vR z), l1, l2, l3] [vR z0] h Q ↔ Rn r 84 144 [some (vR z), l1, l2, l3] [vR z, vR z0] h Q := Rn_nx pg84 rfl rfl
theorem sX1_way_144 (hk : hK h a0 = 2) : Rn r 84 144 [l0, l1, l2, l3] [vR (some a0), vR z1] h Q ↔ Cl r 132 [vR (some a0)] h (Kt r 84 147 [l0, l1, l2, l3] [vR z1] Q) := Rn_call pg84 rfl (by simp only [am_exec, am_inv, am_pop, am_lk, hk]; rfl) pg132 rfl rfl rfl
theorem sX1_way_147 (hk : hK h a1 = 18) : Rn r 84 147 [l0, l1, l2, l3] [vR z0, vR (some a1)] h Q ↔ Rn r 84 150 [l0, l1, l2, l3] [] (putR h a1 7 z0) Q := Rn_nx pg84 rfl ((if_pos ⟨(hk ▸ Nat.le_refl _), (hk ▸ Nat.le_refl _)⟩).trans rfl)
theorem sX1_way_150 : Rn r 84 150 [some (vR z), l1, l2, l3] [] h Q ↔ Rn r 84 151 [some (vR z), l1, l2, l3] [vR z] h Q := Rn_nx pg84 rfl rfl
theorem sX1_way_151 (hk : hK h a0 = 2) : Rn r 84 151 [l0, l1, l2, l3] [vR (some a0)] h Q ↔ Rn r 84 154 [l0, l1, l2, l3] [vI (hI h a0 6)] h Q := Rn_nx pg84 rfl (if_pos ⟨(hk ▸ Nat.le_refl _), (hk ▸ Nat.le_refl _)⟩)
theorem sX1_way_154 : Rn r 84 154 [l0, l1, l2, l3] [vI x0] h Q ↔ Rn r 84 156 [l0, l1, l2, l3] [vI 59, vI x0] h Q := Rn_nx pg84 rfl rfl
theorem sX1_way_156 : Rn r 84 156 [l0, l1, l2, l3] [vI x0, vI x1] h Q ↔ if x1 ≠ x0 then Rn r 84 166 [l0, l1, l2, l3] [] h Q else Rn r 84 159 [l0, l1, l2, l3] [] h Q := Rn_if pg84 rfl rfl rfl
theorem sX1_way_159 : Rn r 84 159 [some (vR z), l1, l2, l3] [] h Q ↔ Rn r 84 160 [some (vR z), l1, l2, l3] [vR z] h Q := Rn_nx pg84 rfl rfl
theorem sX1_way_160 (hk : hK h a0 = 2) : Rn r 84 160 [l0, l1, l2, l3] [vR (some a0)] h Q ↔ Cl r 80 [vR (some a0)] h (Kt r 84 163 [l0, l1, l2, l3] [] Q) := Rn_call pg84 rfl (by simp only [am_exec, am_inv, am_pop, am_lk, hk]; rfl) pg80 rfl rfl rfl
theorem sX1_way_163 : Rn r 84 163 [l0, l1, l2, l3] [] h Q ↔ Rn r 84 182 [l0, l1, l2, l3] [] h Q := Rn_nx pg84 rfl rfl
theorem sX1_way_166 : Rn r 84 166 [l0, l1, some (vR z), l3] [] h Q ↔ Rn r 84 167 [l0, l1, some (vR z), l3] [vR z] h Q := Rn_nx pg84 rfl rfl
theorem sX1_way_167 : Rn r 84 167 [some (vR z), l1, l2, l3] [vR z0] h Q ↔ Rn r 84 168 [some (vR z), l1, l2, l3] [vR z, vR z0] h Q := Rn_nx pg84 rfl rfl
theorem sX1_way_168 : Rn r 84 168 [l0, l1, l2, l3] [vR z0, vR z1] h Q ↔ Rn r 84 171 [l0, l1, l2, l3] [vR (some (hN h)), vR z0, vR z1] (newC h 20 5) Q := Rn_nx pg84 rfl rfl
theorem sX1_way_171 : Rn r 84 171 [l0, l1, l2, l3] [vR z0, vR z1, vR z2] h Q ↔ Rn r 84 172 [l0, l1, l2, l3] [vR z0, vR z0, vR z1, vR z2] h Q := Rn_nx pg84 rfl rfl
theorem sX1_way_172 : Rn r 84 172 [l0, l1, l2, l3] [vR z0, vR z1, vR z2, vR z3] h Q ↔ Rn r 84 173 [l0, l1, l2, l3] [vR none, vR z0, vR z1, vR z2, vR z3] h Q := Rn_nx pg84 rfl rfl
theorem sX1_way_173 (hk : 0 < hK h a1) (hk2 : hK h a1 < 40) : Rn r 84 173 [l0, l1, l2, l3] [vR z0, vR (some a1), vR z2, vR z3, vR z4] h Q ↔ Cl r 133 [vR (some a1), vR z0] h (Kt r 84 176 [l0, l1, l2, l3] [vR z2, vR z3, vR z4] Q) := Rn_call pg84 rfl (if_pos ⟨hk, hk2⟩) pg133 rfl rfl rfl
theorem sX1_way_176 (hk : hK h a1 = 2) : Rn (r + 1) 84 176 [l0, l1, l2, l3] [vR z0, vR (some a1), vR z2] h Q ↔ Cl r 134 [vR (some a1), vR z0] h (Kt (r + 1) 84 179 [l0, l1, l2, l3] [vR z2] Q) := Rn_call pg84 rfl (by simp only [am_exec, am_inv, am_pop, am_lk, hk]; rfl) pg134 rfl rfl rfl
theorem sX1_way_179 (hk : hK h a1 = 18) : Rn r 84 179 [l0, l1, l2, l3] [vR z0, vR (some a1)] h Q ↔ Rn r 84 182 [l0, l1, l2, l3] [] (putR h a1 8 z0) Q := Rn_nx pg84 rfl ((if_pos ⟨(hk ▸ Nat.le_refl _), (hk ▸ Nat.le_refl _)⟩).trans rfl)
theorem sX1_way_182 : Rn r 84 182 [l0, l1, l2, l3] [] h Q ↔ Q (Sum.inl none) h := Rn_end pg84 rfl rfl
/-! 85 ThrowRules$Reader.link()V -/
theorem eX1_link : Cl r 85 [vR z0] h Q ↔ Rn r 85 0 [some (vR z0), none, none, none] [] h Q := Cl_in pg85 rfl
theorem sX1_link_0 : Rn r 85 0 [l0, l1, l2, l3] [] h Q ↔ Rn r 85 1 [l0, l1, l2, l3] [vI 0] h Q := Rn_nx pg85 rfl rfl
theorem sX1_link_1 : Rn r 85 1 [l0, l1, l2, l3] [vI x0] h Q ↔ Rn r 85 2 [l0, some (vI x0), l2, l3] [] h Q := Rn_nx pg85 rfl rfl
theorem sX1_link_2 : Rn r 85 2 [l0, some (vI x), l2, l3] [] h Q ↔ Rn r 85 3 [l0, some (vI x), l2, l3] [vI x] h Q := Rn_nx pg85 rfl rfl
theorem sX1_link_3 : Rn r 85 3 [some (vR z), l1, l2, l3] [vI x0] h Q ↔ Rn r 85 4 [some (vR z), l1, l2, l3] [vR z, vI x0] h Q := Rn_nx pg85 rfl rfl
theorem sX1_link_4 (hk : hK h a0 = 2) : Rn r 85 4 [l0, l1, l2, l3] [vR (some a0), vI x1] h Q ↔ Rn r 85 7 [l0, l1, l2, l3] [vR (hR h a0 10), vI x1] h Q := Rn_nx pg85 rfl (if_pos ⟨(hk ▸ Nat.le_refl _), (hk ▸ Nat.le_refl _)⟩)
theorem sX1_link_7 (hk : hK h a0 = 4) : Rn r 85 7 [l0, l1, l2, l3] [vR (some a0), vI x1] h Q ↔ Cl r 34 [vR (some a0)] h (Kt r 85 10 [l0, l1, l2, l3] [vI x1] Q) := Rn_call pg85 rfl (by simp only [am_exec, am_inv, am_pop, am_lk, hk]; rfl) pg34 rfl rfl rfl
theorem sX1_link_10 : Rn r 85 10 [l0, l1, l2, l3] [vI x0, vI x1] h Q ↔ if x0 ≤ x1 then Rn r 85 65 [l0, l1, l2, l3] [] h Q else Rn r 85 13 [l0, l1, l2, l3] [] h Q := Rn_if pg85 rfl rfl rfl
theorem sX1_link_13 : Rn r 85 13 [some (vR z), l1, l2, l3] [] h Q ↔ Rn r 85 14 [some (vR z), l1, l2, l3] [vR z] h Q := Rn_nx pg85 rfl rfl
theorem sX1_link_14 (hk : hK h a0 = 2) : Rn r 85 14 [l0, l1, l2, l3] [vR (some a0)] h Q ↔ Rn r 85 17 [l0, l1, l2, l3] [vR (hR h a0 10)] h Q := Rn_nx pg85 rfl (if_pos ⟨(hk ▸ Nat.le_refl _), (hk ▸ Nat.le_refl _)⟩)
theorem sX1_link_17 : Rn r 85 17 [l0, some (vI x), l2, l3] [vR z0] h Q ↔ Rn r 85 18 [l0, some (vI x), l2, l3] [vI x, vR z0] h Q := Rn_nx pg85 rfl rfl
theorem sX1_link_18 (hk : hK h a1 = 4) : Rn r 85 18 [l0, l1, l2, l3] [vI x0, vR (some a1)] h Q ↔ Cl r 43 [vR (some a1), vI x0] h (Kt r 85 21 [l0, l1, l2, l3] [] Q) := Rn_call pg85 rfl (by simp only [am_exec, am_inv, am_pop, am_lk, hk]; rfl) pg43 rfl rfl rfl
theorem sX1_link_21_n : Rn r 85 21 [l0, l1, l2, l3] [vR none] h Q ↔ Rn r 85 24 [l0, l1, l2, l3] [vR none] h Q := Rn_nx pg85 rfl rfl
theorem sX1_link_21 (hk : hK h a0 ∈ [31]) : Rn r 85 21 [l0, l1, l2, l3] [vR (some a0)] h Q ↔ Rn r 85 24 [l0, l1, l2, l3] [vR (some a0)] h Q := Rn_nx pg85 rfl (if_pos hk)
theorem sX1_link_24 : Rn r 85 24 [some (vR z), l1, l2, l3] [vR z0] h Q ↔ Rn r 85 25 [some (vR z), l1, l2, l3] [vR z, vR z0] h Q := Rn_nx pg85 rfl rfl
theorem sX1_link_25 : Rn r 85 25 [some (vR z), l1, l2, l3] [vR z0, vR z1] h Q ↔ Rn r 85 26 [some (vR z), l1, l2, l3] [vR z, vR z0, vR z1] h Q := Rn_nx pg85 rfl rfl
theorem sX1_link_26 (hk : hK h a0 = 2) : Rn r 85 26 [l0, l1, l2, l3] [vR (some a0), vR z1, vR z2] h Q ↔ Rn r 85 29 [l0, l1, l2, l3] [vR (hR h a0 10), vR z1, vR z2] h Q := Rn_nx pg85 rfl (if_pos ⟨(hk ▸ Nat.le_refl _), (hk ▸ Nat.le_refl _)⟩)
theorem sX1_link_29 : Rn r 85 29 [l0, some (vI x), l2, l3] [vR z0, vR z1, vR z2] h Q ↔ Rn r 85 30 [l0, some (vI x), l2, l3] [vI x, vR z0, vR z1, vR z2] h Q := Rn_nx pg85 rfl rfl
theorem sX1_link_30 (hk : hK h a1 = 4) : Rn r 85 30 [l0, l1, l2, l3] [vI x0, vR (some a1), vR z2, vR z3] h Q ↔ Cl r 43 [vR (some a1), vI x0] h (Kt r 85 33 [l0, l1, l2, l3] [vR z2, vR z3] Q) := Rn_call pg85 rfl (by simp only [am_exec, am_inv, am_pop, am_lk, hk]; rfl) pg43 rfl rfl rfl
theorem sX1_link_33_n : Rn r 85 33 [l0, l1, l2, l3] [vR none, vR z1, vR z2] h Q ↔ Rn r 85 36 [l0, l1, l2, l3] [vR none, vR z1, vR z2] h Q := Rn_nx pg85 rfl rfl
theorem sX1_link_33 (hk : hK h a0 ∈ [31]) : Rn r 85 33 [l0, l1, l2, l3] [vR (some a0), vR z1, vR z2] h Q ↔ Rn r 85 36 [l0, l1, l2, l3] [vR (some a0), vR z1, vR z2] h Q := Rn_nx pg85 rfl (if_pos hk)
theorem sX1_link_36 (hk : hK h a0 = 31) : Rn r 85 36 [l0, l1, l2, l3] [vR (some a0), vR z1, vR z2] h Q ↔ Rn r 85 39 [l0, l1, l2, l3] [vR (hR h a0 5), vR z1, vR z2] h Q := Rn_nx pg85 rfl (if_pos ⟨(hk ▸ Nat.le_refl _), (hk ▸ Nat.le_refl _)⟩)
theorem sX1_link_39 : Rn r 85 39 [some (vR z), l1, l2, l3] [vR z0, vR z1, vR z2] h Q ↔ Rn r 85 40 [some (vR z), l1, l2, l3] [vR z, vR z0, vR z1, vR z2] h Q := Rn_nx pg85 rfl rfl
theorem sX1_link_40 (hk : hK h a0 = 2) : Rn r 85 40 [l0, l1, l2, l3] [vR (some a0), vR z1, vR z2, vR z3] h Q ↔ Rn r 85 43 [l0, l1, l2, l3] [vR (hR h a0 11), vR z1, vR z2, vR z3] h Q := Rn_nx pg85 rfl (if_pos ⟨(hk ▸ Nat.le_refl _), (hk ▸ Nat.le_refl _)⟩)
theorem sX1_link_43 : Rn r 85 43 [l0, some (vI x), l2, l3] [vR z0, vR z1, vR z2, vR z3] h Q ↔ Rn r 85 44 [l0, some (vI x), l2, l3] [vI x, vR z0, vR z1, vR z2, vR z3] h Q := Rn_nx pg85 rfl rfl
theorem sX1_link_44 (hk : hK h a1 = 4) : Rn r 85 44 [l0, l1, l2, l3] [vI x0, vR (some a1), vR z2, vR z3, vR z4] h Q ↔ Cl r 43 [vR (some a1), vI x0] h (Kt r 85 47 [l0, l1, l2, l3] [vR z2, vR z3, vR z4] Q) := Rn_call pg85 rfl (by simp only [am_exec, am_inv, am_pop, am_lk, hk]; rfl) pg43 rfl rfl rfl
theorem sX1_link_47_n : Rn r 85 47 [l0, l1, l2, l3] [vR none, vR z1, vR z2, vR z3] h Q ↔ Rn r 85 50 [l0, l1, l2, l3] [vR none, vR z1, vR z2, vR z3] h Q := Rn_nx pg85 rfl rfl
theorem sX1_link_47 (hk : hK h a0 ∈ [8, 9]) : Rn r 85 47 [l0, l1, l2, l3] [vR (some a0), vR z1, vR z2, vR z3] h Q ↔ Rn r 85 50 [l0, l1, l2, l3] [vR (some a0), vR z1, vR z2, vR z3] h Q := Rn_nx pg85 rfl (if_pos hk)
theorem sX1_link_50 (hk : 8 ≤ hK h a0) (hk2 : hK h a0 ≤ 9) : Rn r 85 50 [l0, l1, l2, l3] [vR (some a0), vR z1, vR z2, vR z3] h Q ↔ Cl r 135 [vR (some a0)] h (Kt r 85 53 [l0, l1, l2, l3] [vR z1, vR z2, vR z3] Q) := Rn_call pg85 rfl (by rcases am_rng2 hk hk2 with q | q <;> simp only [am_exec, am_inv, am_pop, am_lk, q] <;> rfl) pg135 rfl rfl rfl
theorem sX1_link_53 (hk : hK h a2 = 2) : Rn r 85 53 [l0, l1, l2, l3] [vI x0, vR z1, vR (some a2), vR z3] h Q ↔ Cl r 136 [vR (some a2), vR z1, vI x0] h (Kt r 85 56 [l0, l1, l2, l3] [vR z3] Q) := Rn_call pg85 rfl (by simp only [am_exec, am_inv, am_pop, am_lk, hk]; rfl) pg136 rfl rfl rfl
theorem sX1_link_56 (hk : hK h a1 = 31) : Rn r 85 56 [l0, l1, l2, l3] [vR z0, vR (some a1)] h Q ↔ Rn r 85 59 [l0, l1, l2, l3] [] (putR h a1 6 z0) Q := Rn_nx pg85 rfl ((if_pos ⟨(hk ▸ Nat.le_refl _), (hk ▸ Nat.le_refl _)⟩).trans rfl)
theorem sX1_link_59 : Rn r 85 59 [l0, some (vI x), l2, l3] [] h Q ↔ Rn r 85 62 [l0, some (vI (x + 1)), l2, l3] [] h Q := Rn_nx pg85 rfl rfl
theorem sX1_link_62 : Rn r 85 62 [l0, l1, l2, l3] [] h Q ↔ Rn r 85 2 [l0, l1, l2, l3] [] h Q := Rn_nx pg85 rfl rfl
theorem sX1_link_65 : Rn r 85 65 [l0, l1, l2, l3] [] h Q ↔ Rn r 85 66 [l0, l1, l2, l3] [vI 0] h Q := Rn_nx pg85 rfl rfl
theorem sX1_link_66 : Rn r 85 66 [l0, l1, l2, l3] [vI x0] h Q ↔ Rn r 85 67 [l0, some (vI x0), l2, l3] [] h Q := Rn_nx pg85 rfl rfl
theorem sX1_link_67 : Rn r 85 67 [l0, some (vI x), l2, l3] [] h Q ↔ Rn r 85 68 [l0, some (vI x), l2, l3] [vI x] h Q := Rn_nx pg85 rfl rfl
theorem sX1_link_68 : Rn r 85 68 [some (vR z), l1, l2, l3] [vI x0] h Q ↔ Rn r 85 69 [some (vR z), l1, l2, l3] [vR z, vI x0] h Q := Rn_nx pg85 rfl rfl
theorem sX1_link_69 (hk : hK h a0 = 2) : Rn r 85 69 [l0, l1, l2, l3] [vR (some a0), vI x1] h Q ↔ Rn r 85 72 [l0, l1, l2, l3] [vR (hR h a0 12), vI x1] h Q := Rn_nx pg85 rfl (if_pos ⟨(hk ▸ Nat.le_refl _), (hk ▸ Nat.le_refl _)⟩)
theorem sX1_link_72 (hk : hK h a0 = 4) : Rn r 85 72 [l0, l1, l2, l3] [vR (some a0), vI x1] h Q ↔ Cl r 34 [vR (some a0)] h (Kt r 85 75 [l0, l1, l2, l3] [vI x1] Q) := Rn_call pg85 rfl (by simp only [am_exec, am_inv, am_pop, am_lk, hk]; rfl) pg34 rfl rfl rfl
theorem sX1_link_75 : Rn r 85 75 [l0, l1, l2, l3] [vI x0, vI x1] h Q ↔ if x0 ≤ x1 then Rn r 85 152 [l0, l1, l2, l3] [] h Q else Rn r 85 78 [l0, l1, l2, l3] [] h Q := Rn_if pg85 rfl rfl rfl
theorem sX1_link_78 : Rn r 85 78 [some (vR z), l1, l2, l3] [] h Q ↔ Rn r 85 79 [some (vR z), l1, l2, l3] [vR z] h Q := Rn_nx pg85 rfl rfl
theorem sX1_link_79 (hk : hK h a0 = 2) : Rn r 85 79 [l0, l1, l2, l3] [vR (some a0)] h Q ↔ Rn r 85 82 [l0, l1, l2, l3] [vR (hR h a0 12)] h Q := Rn_nx pg85 rfl (if_pos ⟨(hk ▸ Nat.le_refl _), (hk ▸ Nat.le_refl _)⟩)
theorem sX1_link_82 : Rn r 85 82 [l0, some (vI x), l2, l3] [vR z0] h Q ↔ Rn r 85 83 [l0, some (vI x), l2, l3] [vI x, vR z0] h Q := Rn_nx pg85 rfl rfl
theorem sX1_link_83 (hk : hK h a1 = 4) : Rn r 85 83 [l0, l1, l2, l3] [vI x0, vR (some a1)] h Q ↔ Cl r 43 [vR (some a1), vI x0] h (Kt r 85 86 [l0, l1, l2, l3] [] Q) := Rn_call pg85 rfl (by simp only [am_exec, am_inv, am_pop, am_lk, hk]; rfl) pg43 rfl rfl rfl
theorem sX1_link_86_n : Rn r 85 86 [l0, l1, l2, l3] [vR none] h Q ↔ Rn r 85 89 [l0, l1, l2, l3] [vR none] h Q := Rn_nx pg85 rfl rfl
theorem sX1_link_86 (hk : hK h a0 ∈ [36]) : Rn r 85 86 [l0, l1, l2, l3] [vR (some a0)] h Q ↔ Rn r 85 89 [l0, l1, l2, l3] [vR (some a0)] h Q := Rn_nx pg85 rfl (if_pos hk)
theorem sX1_link_89 : Rn r 85 89 [l0, l1, l2, l3] [vR z0] h Q ↔ Rn r 85 90 [l0, l1, some (vR z0), l3] [] h Q := Rn_nx pg85 rfl rfl
theorem sX1_link_90 : Rn r 85 90 [l0, l1, l2, l3] [] h Q ↔ Rn r 85 91 [l0, l1, l2, l3] [vI 0] h Q := Rn_nx pg85 rfl rfl
theorem sX1_link_91 : Rn r 85 91 [l0, l1, l2, l3] [vI x0] h Q ↔ Rn r 85 92 [l0, l1, l2, some (vI x0)] [] h Q := Rn_nx pg85 rfl rfl
theorem sX1_link_92 : Rn r 85 92 [l0, l1, l2, some (vI x)] [] h Q ↔ Rn r 85 93 [l0, l1, l2, some (vI x)] [vI x] h Q := Rn_nx pg85 rfl rfl
theorem sX1_link_93 : Rn r 85 93 [l0, l1, some (vR z), l3] [vI x0] h Q ↔ Rn r 85 94 [l0, l1, some (vR z), l3] [vR z, vI x0] h Q := Rn_nx pg85 rfl rfl
theorem sX1_link_94 (hk : hK h a0 = 36) : Rn r 85 94 [l0, l1, l2, l3] [vR (some a0), vI x1] h Q ↔ Rn r 85 97 [l0, l1, l2, l3] [vR (hR h a0 5), vI x1] h Q := Rn_nx pg85 rfl (if_pos ⟨(hk ▸ Nat.le_refl _), (hk ▸ Nat.le_refl _)⟩)
theorem sX1_link_97 (hk : hK h a0 = 4) : Rn r 85 97 [l0, l1, l2, l3] [vR (some a0), vI x1] h Q ↔ Cl r 34 [vR (some a0)] h (Kt r 85 100 [l0, l1, l2, l3] [vI x1] Q) := Rn_call pg85 rfl (by simp only [am_exec, am_inv, am_pop, am_lk, hk]; rfl) pg34 rfl rfl rfl
theorem sX1_link_100 : Rn r 85 100 [l0, l1, l2, l3] [vI x0, vI x1] h Q ↔ if x0 ≤ x1 then Rn r 85 146 [l0, l1, l2, l3] [] h Q else Rn r 85 103 [l0, l1, l2, l3] [] h Q := Rn_if pg85 rfl rfl rfl
theorem sX1_link_103 : Rn r 85 103 [l0, l1, some (vR z), l3] [] h Q ↔ Rn r 85 104 [l0, l1, some (vR z), l3] [vR z] h Q := Rn_nx pg85 rfl rfl
theorem sX1_link_104 (hk : hK h a0 = 36) : Rn r 85 104 [l0, l1, l2, l3] [vR (some a0)] h Q ↔ Rn r 85 107 [l0, l1, l2, l3] [vR (hR h a0 7)] h Q := Rn_nx pg85 rfl (if_pos ⟨(hk ▸ Nat.le_refl _), (hk ▸ Nat.le_refl _)⟩)
theorem sX1_link_107 : Rn r 85 107 [some (vR z), l1, l2, l3] [vR z0] h Q ↔ Rn r 85 108 [some (vR z), l1, l2, l3] [vR z, vR z0] h Q := Rn_nx pg85 rfl rfl
theorem sX1_link_108 : Rn r 85 108 [l0, l1, some (vR z), l3] [vR z0, vR z1] h Q ↔ Rn r 85 109 [l0, l1, some (vR z), l3] [vR z, vR z0, vR z1] h Q := Rn_nx pg85 rfl rfl
theorem sX1_link_109 (hk : hK h a0 = 36) : Rn r 85 109 [l0, l1, l2, l3] [vR (some a0), vR z1, vR z2] h Q ↔ Rn r 85 112 [l0, l1, l2, l3] [vR (hR h a0 5), vR z1, vR z2] h Q := Rn_nx pg85 rfl (if_pos ⟨(hk ▸ Nat.le_refl _), (hk ▸ Nat.le_refl _)⟩)
theorem sX1_link_112 : Rn r 85 112 [l0, l1, l2, some (vI x)] [vR z0, vR z1, vR z2] h Q ↔ Rn r 85 113 [l0, l1, l2, some (vI x)] [vI x, vR z0, vR z1, vR z2] h Q := Rn_nx pg85 rfl rfl
theorem sX1_link_113 (hk : hK h a1 = 4) : Rn r 85 113 [l0, l1, l2, l3] [vI x0, vR (some a1), vR z2, vR z3] h Q ↔ Cl r 43 [vR (some a1), vI x0] h (Kt r 85 116 [l0, l1, l2, l3] [vR z2, vR z3] Q) := Rn_call pg85 rfl (by simp only [am_exec, am_inv, am_pop, am_lk, hk]; rfl) pg43 rfl rfl rfl
theorem sX1_link_116_n : Rn r 85 116 [l0, l1, l2, l3] [vR none, vR z1, vR z2] h Q ↔ Rn r 85 119 [l0, l1, l2, l3] [vR none, vR z1, vR z2] h Q := Rn_nx pg85 rfl rfl
theorem sX1_link_116 (hk : hK h a0 ∈ [10, 11]) : Rn r 85 116 [l0, l1, l2, l3] [vR (some a0), vR z1, vR z2] h Q ↔ Rn r 85 119 [l0, l1, l2, l3] [vR (some a0), vR z1, vR z2] h Q := Rn_nx pg85 rfl (if_pos hk)
theorem sX1_link_119 : Rn r 85 119 [l0, l1, some (vR z), l3] [vR z0, vR z1, vR z2] h Q ↔ Rn r 85 120 [l0, l1, some (vR z), l3] [vR z, vR z0, vR z1, vR z2] h Q := Rn_nx pg85 rfl rfl
theorem sX1_link_120 (hk : hK h a0 = 36) : Rn r 85 120 [l0, l1, l2, l3] [vR (some a0), vR z1, vR z2, vR z3] h Q ↔ Rn r 85 123 [l0, l1, l2, l3] [vR (hR h a0 6), vR z1, vR z2, vR z3] h Q := Rn_nx pg85 rfl (if_pos ⟨(hk ▸ Nat.le_refl _), (hk ▸ Nat.le_refl _)⟩)
theorem sX1_link_123 : Rn r 85 123 [l0, l1, l2, some (vI x)] [vR z0, vR z1, vR z2, vR z3] h Q ↔ Rn r 85 124 [l0, l1, l2, some (vI x)] [vI x, vR z0, vR z1, vR z2, vR z3] h Q := Rn_nx pg85 rfl rfl
theorem sX1_link_124 (hk : hK h a1 = 4) : Rn r 85 124 [l0, l1, l2, l3] [vI x0, vR (some a1), vR z2, vR z3, vR z4] h Q ↔ Cl r 43 [vR (some a1), vI x0] h (Kt r 85 127 [l0, l1, l2, l3] [vR z2, vR z3, vR z4] Q) := Rn_call pg85 rfl (by simp only [am_exec, am_inv, am_pop, am_lk, hk]; rfl) pg43 rfl rfl rfl
theorem sX1_link_127_n : Rn r 85 127 [l0, l1, l2, l3] [vR none, vR z1, vR z2, vR z3] h Q ↔ Rn r 85 130 [l0, l1, l2, l3] [vR none, vR z1, vR z2, vR z3] h Q := Rn_nx pg85 rfl rfl
theorem sX1_link_127 (hk : hK h a0 ∈ [8, 9]) : Rn r 85 127 [l0, l1, l2, l3] [vR (some a0), vR z1, vR z2, vR z3] h Q ↔ Rn r 85 130 [l0, l1, l2, l3] [vR (some a0), vR z1, vR z2, vR z3] h Q := Rn_nx pg85 rfl (if_pos hk)
theorem sX1_link_130 (hk : 8 ≤ hK h a0) (hk2 : hK h a0 ≤ 9) : Rn r 85 130 [l0, l1, l2, l3] [vR (some a0), vR z1, vR z2, vR z3] h Q ↔ Cl r 135 [vR (some a0)] h (Kt r 85 133 [l0, l1, l2, l3] [vR z1, vR z2, vR z3] Q) := Rn_call pg85 rfl (by rcases am_rng2 hk hk2 with q | q <;> simp only [am_exec, am_inv, am_pop, am_lk, q] <;> rfl) pg135 rfl rfl rfl
theorem sX1_link_133 (hk : hK h a2 = 2) : Rn r 85 133 [l0, l1, l2, l3] [vI x0, vR z1, vR (some a2), vR z3] h Q ↔ Cl r 136 [vR (some a2), vR z1, vI x0] h (Kt r 85 136 [l0, l1, l2, l3] [vR z3] Q) := Rn_call pg85 rfl (by simp only [am_exec, am_inv, am_pop, am_lk, hk]; rfl) pg136 rfl rfl rfl
theorem sX1_link_136 (hk : hK h a1 = 4) : Rn r 85 136 [l0, l1, l2, l3] [vR z0, vR (some a1)] h Q ↔ Cl r 119 [vR (some a1), vR z0] h (Kt r 85 139 [l0, l1, l2, l3] [] Q) := Rn_call pg85 rfl (by simp only [am_exec, am_inv, am_pop, am_lk, hk]; rfl) pg119 rfl rfl rfl
theorem sX1_link_139 : Rn r 85 139 [l0, l1, l2, l3] [vI x0] h Q ↔ Rn r 85 140 [l0, l1, l2, l3] [] h Q := Rn_nx pg85 rfl rfl
theorem sX1_link_140 : Rn r 85 140 [l0, l1, l2, some (vI x)] [] h Q ↔ Rn r 85 143 [l0, l1, l2, some (vI (x + 1))] [] h Q := Rn_nx pg85 rfl rfl
theorem sX1_link_143 : Rn r 85 143 [l0, l1, l2, l3] [] h Q ↔ Rn r 85 92 [l0, l1, l2, l3] [] h Q := Rn_nx pg85 rfl rfl
theorem sX1_link_146 : Rn r 85 146 [l0, some (vI x), l2, l3] [] h Q ↔ Rn r 85 149 [l0, some (vI (x + 1)), l2, l3] [] h Q := Rn_nx pg85 rfl rfl
theorem sX1_link_149 : Rn r 85 149 [l0, l1, l2, l3] [] h Q ↔ Rn r 85 67 [l0, l1, l2, l3] [] h Q := Rn_nx pg85 rfl rfl
theorem sX1_link_152 : Rn r 85 152 [l0, l1, l2, l3] [] h Q ↔ Rn r 85 153 [l0, l1, l2, l3] [vI 0] h Q := Rn_nx pg85 rfl rfl
theorem sX1_link_153 : Rn r 85 153 [l0, l1, l2, l3] [vI x0] h Q ↔ Rn r 85 154 [l0, some (vI x0), l2, l3] [] h Q := Rn_nx pg85 rfl rfl
theorem sX1_link_154 : Rn r 85 154 [l0, some (vI x), l2, l3] [] h Q ↔ Rn r 85 155 [l0, some (vI x), l2, l3] [vI x] h Q := Rn_nx pg85 rfl rfl
theorem sX1_link_155 : Rn r 85 155 [some (vR z), l1, l2, l3] [vI x0] h Q ↔ Rn r 85 156 [some (vR z), l1, l2, l3] [vR z, vI x0] h Q := Rn_nx pg85 rfl rfl
theorem sX1_link_156 (hk : hK h a0 = 2) : Rn r 85 156 [l0, l1, l2, l3] [vR (some a0), vI x1] h Q ↔ Rn r 85 159 [l0, l1, l2, l3] [vR (hR h a0 13), vI x1] h Q := Rn_nx pg85 rfl (if_pos ⟨(hk ▸ Nat.le_refl _), (hk ▸ Nat.le_refl _)⟩)
theorem sX1_link_159 (hk : hK h a0 = 4) : Rn r 85 159 [l0, l1, l2, l3] [vR (some a0), vI x1] h Q ↔ Cl r 34 [vR (some a0)] h (Kt r 85 162 [l0, l1, l2, l3] [vI x1] Q) := Rn_call pg85 rfl (by simp only [am_exec, am_inv, am_pop, am_lk, hk]; rfl) pg34 rfl rfl rfl
theorem sX1_link_162 : Rn r 85 162 [l0, l1, l2, l3] [vI x0, vI x1] h Q ↔ if x0 ≤ x1 then Rn r 85 215 [l0, l1, l2, l3] [] h Q else Rn r 85 165 [l0, l1, l2, l3] [] h Q := Rn_if pg85 rfl rfl rfl
theorem sX1_link_165 : Rn r 85 165 [some (vR z), l1, l2, l3] [] h Q ↔ Rn r 85 166 [some (vR z), l1, l2, l3] [vR z] h Q := Rn_nx pg85 rfl rfl
theorem sX1_link_166 (hk : hK h a0 = 2) : Rn r 85 166 [l0, l1, l2, l3] [vR (some a0)] h Q ↔ Rn r 85 169 [l0, l1, l2, l3] [vR (hR h a0 13)] h Q := Rn_nx pg85 rfl (if_pos ⟨(hk ▸ Nat.le_refl _), (hk ▸ Nat.le_refl _)⟩)
theorem sX1_link_169 : Rn r 85 169 [l0, some (vI x), l2, l3] [vR z0] h Q ↔ Rn r 85 170 [l0, some (vI x), l2, l3] [vI x, vR z0] h Q := Rn_nx pg85 rfl rfl
theorem sX1_link_170 (hk : hK h a1 = 4) : Rn r 85 170 [l0, l1, l2, l3] [vI x0, vR (some a1)] h Q ↔ Cl r 43 [vR (some a1), vI x0] h (Kt r 85 173 [l0, l1, l2, l3] [] Q) := Rn_call pg85 rfl (by simp only [am_exec, am_inv, am_pop, am_lk, hk]; rfl) pg43 rfl rfl rfl
theorem sX1_link_173_n : Rn r 85 173 [l0, l1, l2, l3] [vR none] h Q ↔ Rn r 85 176 [l0, l1, l2, l3] [vR none] h Q := Rn_nx pg85 rfl rfl
theorem sX1_link_173 (hk : hK h a0 ∈ [32]) : Rn r 85 173 [l0, l1, l2, l3] [vR (some a0)] h Q ↔ Rn r 85 176 [l0, l1, l2, l3] [vR (some a0)] h Q := Rn_nx pg85 rfl (if_pos hk)
theorem sX1_link_176 (hk : hK h a0 = 32) : Rn r 85 176 [l0, l1, l2, l3] [vR (some a0)] h Q ↔ Rn r 85 179 [l0, l1, l2, l3] [vR (hR h a0 5)] h Q := Rn_nx pg85 rfl (if_pos ⟨(hk ▸ Nat.le_refl _), (hk ▸ Nat.le_refl _)⟩)
theorem sX1_link_179 (hk : hK h a0 = 22) : Rn r 85 179 [l0, l1, l2, l3] [vR (some a0)] h Q ↔ Rn r 85 182 [l0, l1, l2, l3] [vI (hI h a0 4)] h Q := Rn_nx pg85 rfl (if_pos ⟨(hk ▸ Nat.le_refl _), (hk ▸ Nat.le_refl _)⟩)
theorem sX1_link_182 : Rn r 85 182 [l0, l1, l2, l3] [vI x0] h Q ↔ if x0 = 0 then Rn r 85 209 [l0, l1, l2, l3] [] h Q else Rn r 85 185 [l0, l1, l2, l3] [] h Q := Rn_if pg85 rfl rfl rfl
theorem sX1_link_185 : Rn r 85 185 [some (vR z), l1, l2, l3] [] h Q ↔ Rn r 85 186 [some (vR z), l1, l2, l3] [vR z] h Q := Rn_nx pg85 rfl rfl
theorem sX1_link_186 (hk : hK h a0 = 2) : Rn r 85 186 [l0, l1, l2, l3] [vR (some a0)] h Q ↔ Rn r 85 189 [l0, l1, l2, l3] [vR (hR h a0 7)] h Q := Rn_nx pg85 rfl (if_pos ⟨(hk ▸ Nat.le_refl _), (hk ▸ Nat.le_refl _)⟩)
theorem sX1_link_189 : Rn r 85 189 [l0, l1, l2, l3] [vR z0] h Q ↔ Rn r 85 191 [l0, l1, l2, l3] [vI 12, vR z0] h Q := Rn_nx pg85 rfl rfl
theorem sX1_link_191 : Rn r 85 191 [some (vR z), l1, l2, l3] [vI x0, vR z1] h Q ↔ Rn r 85 192 [some (vR z), l1, l2, l3] [vR z, vI x0, vR z1] h Q := Rn_nx pg85 rfl rfl
theorem sX1_link_192 (hk : hK h a0 = 2) : Rn r 85 192 [l0, l1, l2, l3] [vR (some a0), vI x1, vR z2] h Q ↔ Rn r 85 195 [l0, l1, l2, l3] [vR (hR h a0 17), vI x1, vR z2] h Q := Rn_nx pg85 rfl (if_pos ⟨(hk ▸ Nat.le_refl _), (hk ▸ Nat.le_refl _)⟩)
theorem sX1_link_195 : Rn r 85 195 [l0, some (vI x), l2, l3] [vR z0, vI x1, vR z2] h Q ↔ Rn r 85 196 [l0, some (vI x), l2, l3] [vI x, vR z0, vI x1, vR z2] h Q := Rn_nx pg85 rfl rfl
theorem sX1_link_196 (hk : hK h a1 = 4) : Rn r 85 196 [l0, l1, l2, l3] [vI x0, vR (some a1), vI x2, vR z3] h Q ↔ Cl r 43 [vR (some a1), vI x0] h (Kt r 85 199 [l0, l1, l2, l3] [vI x2, vR z3] Q) := Rn_call pg85 rfl (by simp only [am_exec, am_inv, am_pop, am_lk, hk]; rfl) pg43 rfl rfl rfl
theorem sX1_link_199_n : Rn r 85 199 [l0, l1, l2, l3] [vR none, vI x1, vR z2] h Q ↔ Rn r 85 202 [l0, l1, l2, l3] [vR none, vI x1, vR z2] h Q := Rn_nx pg85 rfl rfl
theorem sX1_link_199 (hk : hK h a0 ∈ [8, 9]) : Rn r 85 199 [l0, l1, l2, l3] [vR (some a0), vI x1, vR z2] h Q ↔ Rn r 85 202 [l0, l1, l2, l3] [vR (some a0), vI x1, vR z2] h Q := Rn_nx pg85 rfl (if_pos hk)
theorem sX1_link_202 (hk : 8 ≤ hK h a0) (hk2 : hK h a0 ≤ 9) : Rn r 85 202 [l0, l1, l2, l3] [vR (some a0), vI x1, vR z2] h Q ↔ Cl r 135 [vR (some a0)] h (Kt r 85 205 [l0, l1, l2, l3] [vI x1, vR z2] Q) := Rn_call pg85 rfl (by rcases am_rng2 hk hk2 with q | q <;> simp only [am_exec, am_inv, am_pop, am_lk, q] <;> rfl) pg135 rfl rfl rfl
theorem sX1_link_205 : Rn r 85 205 [l0, l1, l2, l3] [vI x0, vI x1, vR z2] h Q ↔ Rn r 85 206 [l0, l1, l2, l3] [vI (-1), vI x0, vI x1, vR z2] h Q := Rn_nx pg85 rfl rfl
theorem sX1_link_206 (hk : hK h a3 = 5) : Rn r 85 206 [l0, l1, l2, l3] [vI x0, vI x1, vI x2, vR (some a3)] h Q ↔ Cl r 130 [vR (some a3), vI x2, vI x1, vI x0] h (Kt r 85 209 [l0, l1, l2, l3] [] Q) := Rn_call pg85 rfl (by simp only [am_exec, am_inv, am_pop, am_lk, hk]; rfl) pg130 rfl rfl rfl
theorem sX1_link_209 : Rn r 85 209 [l0, some (vI x), l2, l3] [] h Q ↔ Rn r 85 212 [l0, some (vI (x + 1)), l2, l3] [] h Q := Rn_nx pg85 rfl rfl
theorem sX1_link_212 : Rn r 85 212 [l0, l1, l2, l3] [] h Q ↔ Rn r 85 154 [l0, l1, l2, l3] [] h Q := Rn_nx pg85 rfl rfl
theorem sX1_link_215 : Rn r 85 215 [l0, l1, l2, l3] [] h Q ↔ Rn r 85 216 [l0, l1, l2, l3] [vI 0] h Q := Rn_nx pg85 rfl rfl
theorem sX1_link_216 : Rn r 85 216 [l0, l1, l2, l3] [vI x0] h Q ↔ Rn r 85 217 [l0, some (vI x0), l2, l3] [] h Q := Rn_nx pg85 rfl rfl
theorem sX1_link_217 : Rn r 85 217 [l0, some (vI x), l2, l3] [] h Q ↔ Rn r 85 218 [l0, some (vI x), l2, l3] [vI x] h Q := Rn_nx pg85 rfl rfl
theorem sX1_link_218 : Rn r 85 218 [some (vR z), l1, l2, l3] [vI x0] h Q ↔ Rn r 85 219 [some (vR z), l1, l2, l3] [vR z, vI x0] h Q := Rn_nx pg85 rfl rfl
theorem sX1_link_219 (hk : hK h a0 = 2) : Rn r 85 219 [l0, l1, l2, l3] [vR (some a0), vI x1] h Q ↔ Rn r 85 222 [l0, l1, l2, l3] [vR (hR h a0 7), vI x1] h Q := Rn_nx pg85 rfl (if_pos ⟨(hk ▸ Nat.le_refl _), (hk ▸ Nat.le_refl _)⟩)
theorem sX1_link_222 (hk : hK h a0 = 5) : Rn r 85 222 [l0, l1, l2, l3] [vR (some a0), vI x1] h Q ↔ Rn r 85 225 [l0, l1, l2, l3] [vR (hR h a0 2), vI x1] h Q := Rn_nx pg85 rfl (if_pos ⟨(hk ▸ Nat.le_refl _), (hk ▸ Nat.le_refl _)⟩)
theorem sX1_link_225 (hk : hK h a0 = 4) : Rn r 85 225 [l0, l1, l2, l3] [vR (some a0), vI x1] h Q ↔ Cl r 34 [vR (some a0)] h (Kt r 85 228 [l0, l1, l2, l3] [vI x1] Q) := Rn_call pg85 rfl (by simp only [am_exec, am_inv, am_pop, am_lk, hk]; rfl) pg34 rfl rfl rfl
theorem sX1_link_228 : Rn r 85 228 [l0, l1, l2, l3] [vI x0, vI x1] h Q ↔ if x0 ≤ x1 then Rn r 85 279 [l0, l1, l2, l3] [] h Q else Rn r 85 231 [l0, l1, l2, l3] [] h Q := Rn_if pg85 rfl rfl rfl
theorem sX1_link_231 : Rn r 85 231 [some (vR z), l1, l2, l3] [] h Q ↔ Rn r 85 232 [some (vR z), l1, l2, l3] [vR z] h Q := Rn_nx pg85 rfl rfl
theorem sX1_link_232 (hk : hK h a0 = 2) : Rn r 85 232 [l0, l1, l2, l3] [vR (some a0)] h Q ↔ Rn r 85 235 [l0, l1, l2, l3] [vR (hR h a0 7)] h Q := Rn_nx pg85 rfl (if_pos ⟨(hk ▸ Nat.le_refl _), (hk ▸ Nat.le_refl _)⟩)
theorem sX1_link_235 (hk : hK h a0 = 5) : Rn r 85 235 [l0, l1, l2, l3] [vR (some a0)] h Q ↔ Rn r 85 238 [l0, l1, l2, l3] [vR (hR h a0 2)] h Q := Rn_nx pg85 rfl (if_pos ⟨(hk ▸ Nat.le_refl _), (hk ▸ Nat.le_refl _)⟩)
theorem sX1_link_238 : Rn r 85 238 [l0, some (vI x), l2, l3] [vR z0] h Q ↔ Rn r 85 239 [l0, some (vI x), l2, l3] [vI x, vR z0] h Q := Rn_nx pg85 rfl rfl
theorem sX1_link_239 (hk : hK h a1 = 4) : Rn r 85 239 [l0, l1, l2, l3] [vI x0, vR (some a1)] h Q ↔ Cl r 43 [vR (some a1), vI x0] h (Kt r 85 242 [l0, l1, l2, l3] [] Q) := Rn_call pg85 rfl (by simp only [am_exec, am_inv, am_pop, am_lk, hk]; rfl) pg43 rfl rfl rfl
theorem sX1_link_242_n : Rn r 85 242 [l0, l1, l2, l3] [vR none] h Q ↔ Rn r 85 245 [l0, l1, l2, l3] [vR none] h Q := Rn_nx pg85 rfl rfl
theorem sX1_link_242 (hk : hK h a0 ∈ [18]) : Rn r 85 242 [l0, l1, l2, l3] [vR (some a0)] h Q ↔ Rn r 85 245 [l0, l1, l2, l3] [vR (some a0)] h Q := Rn_nx pg85 rfl (if_pos hk)
theorem sX1_link_245 : Rn r 85 245 [l0, l1, l2, l3] [vR z0] h Q ↔ Rn r 85 246 [l0, l1, some (vR z0), l3] [] h Q := Rn_nx pg85 rfl rfl
theorem sX1_link_246 : Rn r 85 246 [l0, l1, some (vR z), l3] [] h Q ↔ Rn r 85 247 [l0, l1, some (vR z), l3] [vR z] h Q := Rn_nx pg85 rfl rfl
theorem sX1_link_247 : Rn r 85 247 [l0, l1, some (vR z), l3] [vR z0] h Q ↔ Rn r 85 248 [l0, l1, some (vR z), l3] [vR z, vR z0] h Q := Rn_nx pg85 rfl rfl
theorem sX1_link_248 (hk : hK h a0 = 18) : Rn r 85 248 [l0, l1, l2, l3] [vR (some a0), vR z1] h Q ↔ Rn r 85 251 [l0, l1, l2, l3] [vR (hR h a0 4), vR z1] h Q := Rn_nx pg85 rfl (if_pos ⟨(hk ▸ Nat.le_refl _), (hk ▸ Nat.le_refl _)⟩)
theorem sX1_link_251 : Rn r 85 251 [l0, l1, l2, l3] [vR z0, vR z1] h Q ↔ if z0 ≠ none then Rn r 85 258 [l0, l1, l2, l3] [vR z1] h Q else Rn r 85 254 [l0, l1, l2, l3] [vR z1] h Q := Rn_if pg85 rfl rfl rfl
theorem sX1_link_254 : Rn r 85 254 [l0, l1, l2, l3] [vR z0] h Q ↔ Rn r 85 255 [l0, l1, l2, l3] [vR none, vR z0] h Q := Rn_nx pg85 rfl rfl
theorem sX1_link_255 : Rn r 85 255 [l0, l1, l2, l3] [vR z0, vR z1] h Q ↔ Rn r 85 270 [l0, l1, l2, l3] [vR z0, vR z1] h Q := Rn_nx pg85 rfl rfl
theorem sX1_link_258 : Rn r 85 258 [some (vR z), l1, l2, l3] [vR z0] h Q ↔ Rn r 85 259 [some (vR z), l1, l2, l3] [vR z, vR z0] h Q := Rn_nx pg85 rfl rfl
theorem sX1_link_259 : Rn r 85 259 [l0, l1, some (vR z), l3] [vR z0, vR z1] h Q ↔ Rn r 85 260 [l0, l1, some (vR z), l3] [vR z, vR z0, vR z1] h Q := Rn_nx pg85 rfl rfl
theorem sX1_link_260 (hk : hK h a0 = 18) : Rn r 85 260 [l0, l1, l2, l3] [vR (some a0), vR z1, vR z2] h Q ↔ Rn r 85 263 [l0, l1, l2, l3] [vR (hR h a0 4), vR z1, vR z2] h Q := Rn_nx pg85 rfl (if_pos ⟨(hk ▸ Nat.le_refl _), (hk ▸ Nat.le_refl _)⟩)
theorem sX1_link_263 : Rn r 85 263 [l0, l1, some (vR z), l3] [vR z0, vR z1, vR z2] h Q ↔ Rn r 85 264 [l0, l1, some (vR z), l3] [vR z, vR z0, vR z1, vR z2] h Q := Rn_nx pg85 rfl rfl
theorem sX1_link_264 (hk : hK h a0 = 18) : Rn r 85 264 [l0, l1, l2, l3] [vR (some a0), vR z1, vR z2, vR z3] h Q ↔ Rn r 85 267 [l0, l1, l2, l3] [vI (hI h a0 5), vR z1, vR z2, vR z3] h Q := Rn_nx pg85 rfl (if_pos ⟨(hk ▸ Nat.le_refl _), (hk ▸ Nat.le_refl _)⟩)
theorem sX1_link_267 (hk : hK h a2 = 2) : Rn r 85 267 [l0, l1, l2, l3] [vI x0, vR z1, vR (some a2), vR z3] h Q ↔ Cl r 136 [vR (some a2), vR z1, vI x0] h (Kt r 85 270 [l0, l1, l2, l3] [vR z3] Q) := Rn_call pg85 rfl (by simp only [am_exec, am_inv, am_pop, am_lk, hk]; rfl) pg136 rfl rfl rfl
theorem sX1_link_270 (hk : hK h a1 = 18) : Rn r 85 270 [l0, l1, l2, l3] [vR z0, vR (some a1)] h Q ↔ Rn r 85 273 [l0, l1, l2, l3] [] (putR h a1 6 z0) Q := Rn_nx pg85 rfl ((if_pos ⟨(hk ▸ Nat.le_refl _), (hk ▸ Nat.le_refl _)⟩).trans rfl)
theorem sX1_link_273 : Rn r 85 273 [l0, some (vI x), l2, l3] [] h Q ↔ Rn r 85 276 [l0, some (vI (x + 1)), l2, l3] [] h Q := Rn_nx pg85 rfl rfl
theorem sX1_link_276 : Rn r 85 276 [l0, l1, l2, l3] [] h Q ↔ Rn r 85 217 [l0, l1, l2, l3] [] h Q := Rn_nx pg85 rfl rfl
theorem sX1_link_279 : Rn r 85 279 [l0, l1, l2, l3] [] h Q ↔ Q (Sum.inl none) h := Rn_end pg85 rfl rfl
/-! 86 ThrowRules$Reader.judge()V -/
theorem eX1_judge : Cl r 86 [vR z0] h Q ↔ Rn r 86 0 [some (vR z0), none, none, none, none] [] h Q := Cl_in pg86 rfl
theorem sX1_judge_0 : Rn r 86 0 [l0, l1, l2, l3, l4] [] h Q ↔ Rn r 86 1 [l0, l1, l2, l3, l4] [vI 0] h Q := Rn_nx pg86 rfl rfl
theorem sX1_judge_1 : Rn r 86 1 [l0, l1, l2, l3, l4] [vI x0] h Q ↔ Rn r 86 2 [l0, some (vI x0), l2, l3, l4] [] h Q := Rn_nx pg86 rfl rfl
theorem sX1_judge_2 : Rn r 86 2 [l0, some (vI x), l2, l3, l4] [] h Q ↔ Rn r 86 3 [l0, some (vI x), l2, l3, l4] [vI x] h Q := Rn_nx pg86 rfl rfl
theorem sX1_judge_3 : Rn r 86 3 [some (vR z), l1, l2, l3, l4] [vI x0] h Q ↔ Rn r 86 4 [some (vR z), l1, l2, l3, l4] [vR z, vI x0] h Q := Rn_nx pg86 rfl rfl
theorem sX1_judge_4 (hk : hK h a0 = 2) : Rn r 86 4 [l0, l1, l2, l3, l4] [vR (some a0), vI x1] h Q ↔ Rn r 86 7 [l0, l1, l2, l3, l4] [vR (hR h a0 7), vI x1] h Q := Rn_nx pg86 rfl (if_pos ⟨(hk ▸ Nat.le_refl _), (hk ▸ Nat.le_refl _)⟩)
theorem sX1_judge_7 (hk : hK h a0 = 5) : Rn r 86 7 [l0, l1, l2, l3, l4] [vR (some a0), vI x1] h Q ↔ Rn r 86 10 [l0, l1, l2, l3, l4] [vR (hR h a0 2), vI x1] h Q := Rn_nx pg86 rfl (if_pos ⟨(hk ▸ Nat.le_refl _), (hk ▸ Nat.le_refl _)⟩)
theorem sX1_judge_10 (hk : hK h a0 = 4) : Rn r 86 10 [l0, l1, l2, l3, l4] [vR (some a0), vI x1] h Q ↔ Cl r 34 [vR (some a0)] h (Kt r 86 13 [l0, l1, l2, l3, l4] [vI x1] Q) := Rn_call pg86 rfl (by simp only [am_exec, am_inv, am_pop, am_lk, hk]; rfl) pg34 rfl rfl rfl
theorem sX1_judge_13 : Rn r 86 13 [l0, l1, l2, l3, l4] [vI x0, vI x1] h Q ↔ if x0 ≤ x1 then Rn r 86 197 [l0, l1, l2, l3, l4] [] h Q else Rn r 86 16 [l0, l1, l2, l3, l4] [] h Q := Rn_if pg86 rfl rfl rfl
theorem sX1_judge_16 : Rn r 86 16 [some (vR z), l1, l2, l3, l4] [] h Q ↔ Rn r 86 17 [some (vR z), l1, l2, l3, l4] [vR z] h Q := Rn_nx pg86 rfl rfl
theorem sX1_judge_17 (hk : hK h a0 = 2) : Rn r 86 17 [l0, l1, l2, l3, l4] [vR (some a0)] h Q ↔ Rn r 86 20 [l0, l1, l2, l3, l4] [vR (hR h a0 7)] h Q := Rn_nx pg86 rfl (if_pos ⟨(hk ▸ Nat.le_refl _), (hk ▸ Nat.le_refl _)⟩)
theorem sX1_judge_20 (hk : hK h a0 = 5) : Rn r 86 20 [l0, l1, l2, l3, l4] [vR (some a0)] h Q ↔ Rn r 86 23 [l0, l1, l2, l3, l4] [vR (hR h a0 2)] h Q := Rn_nx pg86 rfl (if_pos ⟨(hk ▸ Nat.le_refl _), (hk ▸ Nat.le_refl _)⟩)
theorem sX1_judge_23 : Rn r 86 23 [l0, some (vI x), l2, l3, l4] [vR z0] h Q ↔ Rn r 86 24 [l0, some (vI x), l2, l3, l4] [vI x, vR z0] h Q := Rn_nx pg86 rfl rfl
theorem sX1_judge_24 (hk : hK h a1 = 4) : Rn r 86 24 [l0, l1, l2, l3, l4] [vI x0, vR (some a1)] h Q ↔ Cl r 43 [vR (some a1), vI x0] h (Kt r 86 27 [l0, l1, l2, l3, l4] [] Q) := Rn_call pg86 rfl (by simp only [am_exec, am_inv, am_pop, am_lk, hk]; rfl) pg43 rfl rfl rfl
theorem sX1_judge_27_n : Rn r 86 27 [l0, l1, l2, l3, l4] [vR none] h Q ↔ Rn r 86 30 [l0, l1, l2, l3, l4] [vR none] h Q := Rn_nx pg86 rfl rfl
theorem sX1_judge_27 (hk : hK h a0 ∈ [18]) : Rn r 86 27 [l0, l1, l2, l3, l4] [vR (some a0)] h Q ↔ Rn r 86 30 [l0, l1, l2, l3, l4] [vR (some a0)] h Q := Rn_nx pg86 rfl (if_pos hk)
theorem sX1_judge_30 : Rn r 86 30 [l0, l1, l2, l3, l4] [vR z0] h Q ↔ Rn r 86 31 [l0, l1, some (vR z0), l3, l4] [] h Q := Rn_nx pg86 rfl rfl
theorem sX1_judge_31 : Rn r 86 31 [l0, l1, some (vR z), l3, l4] [] h Q ↔ Rn r 86 32 [l0, l1, some (vR z), l3, l4] [vR z] h Q := Rn_nx pg86 rfl rfl
theorem sX1_judge_32 (hk : hK h a0 = 18) : Rn r 86 32 [l0, l1, l2, l3, l4] [vR (some a0)] h Q ↔ Rn r 86 35 [l0, l1, l2, l3, l4] [vR (hR h a0 8)] h Q := Rn_nx pg86 rfl (if_pos ⟨(hk ▸ Nat.le_refl _), (hk ▸ Nat.le_refl _)⟩)
theorem sX1_judge_35 : Rn r 86 35 [l0, l1, l2, l3, l4] [vR z0] h Q ↔ if z0 = none then Rn r 86 78 [l0, l1, l2, l3, l4] [] h Q else Rn r 86 38 [l0, l1, l2, l3, l4] [] h Q := Rn_if pg86 rfl rfl rfl
theorem sX1_judge_38 : Rn r 86 38 [l0, l1, some (vR z), l3, l4] [] h Q ↔ Rn r 86 39 [l0, l1, some (vR z), l3, l4] [vR z] h Q := Rn_nx pg86 rfl rfl
theorem sX1_judge_39 (hk : hK h a0 = 18) : Rn r 86 39 [l0, l1, l2, l3, l4] [vR (some a0)] h Q ↔ Rn r 86 42 [l0, l1, l2, l3, l4] [vR (hR h a0 8)] h Q := Rn_nx pg86 rfl (if_pos ⟨(hk ▸ Nat.le_refl _), (hk ▸ Nat.le_refl _)⟩)
theorem sX1_judge_42 : Rn r 86 42 [some (vR z), l1, l2, l3, l4] [vR z0] h Q ↔ Rn r 86 43 [some (vR z), l1, l2, l3, l4] [vR z, vR z0] h Q := Rn_nx pg86 rfl rfl
theorem sX1_judge_43 (hk : hK h a0 = 2) : Rn r 86 43 [l0, l1, l2, l3, l4] [vR (some a0), vR z1] h Q ↔ Rn r 86 46 [l0, l1, l2, l3, l4] [vR (hR h a0 7), vR z1] h Q := Rn_nx pg86 rfl (if_pos ⟨(hk ▸ Nat.le_refl _), (hk ▸ Nat.le_refl _)⟩)
theorem sX1_judge_46 (hk : hK h a1 = 21) : Rn (r + 1) 86 46 [l0, l1, l2, l3, l4] [vR z0, vR (some a1)] h Q ↔ Cl r 137 [vR (some a1), vR z0] h (Kt (r + 1) 86 49 [l0, l1, l2, l3, l4] [] Q) := Rn_call pg86 rfl (by simp only [am_exec, am_inv, am_pop, am_lk, hk]; rfl) pg137 rfl rfl rfl
theorem sX1_judge_49 : Rn r 86 49 [some (vR z), l1, l2, l3, l4] [] h Q ↔ Rn r 86 50 [some (vR z), l1, l2, l3, l4] [vR z] h Q := Rn_nx pg86 rfl rfl
theorem sX1_judge_50 (hk : hK h a0 = 2) : Rn r 86 50 [l0, l1, l2, l3, l4] [vR (some a0)] h Q ↔ Rn r 86 53 [l0, l1, l2, l3, l4] [vR (hR h a0 7)] h Q := Rn_nx pg86 rfl (if_pos ⟨(hk ▸ Nat.le_refl _), (hk ▸ Nat.le_refl _)⟩)
theorem sX1_judge_53 : Rn r 86 53 [l0, l1, some (vR z), l3, l4] [vR z0] h Q ↔ Rn r 86 54 [l0, l1, some (vR z), l3, l4] [vR z, vR z0] h Q := Rn_nx pg86 rfl rfl
theorem sX1_judge_54 (hk : hK h a0 = 18) : Rn r 86 54 [l0, l1, l2, l3, l4] [vR (some a0), vR z1] h Q ↔ Rn r 86 57 [l0, l1, l2, l3, l4] [vR (hR h a0 8), vR z1] h Q := Rn_nx pg86 rfl (if_pos ⟨(hk ▸ Nat.le_refl _), (hk ▸ Nat.le_refl _)⟩)
theorem sX1_judge_57 (hk : hK h a0 = 21) : Rn r 86 57 [l0, l1, l2, l3, l4] [vR (some a0), vR z1] h Q ↔ Rn r 86 60 [l0, l1, l2, l3, l4] [vI (hI h a0 2), vR z1] h Q := Rn_nx pg86 rfl (if_pos ⟨(hk ▸ Nat.le_refl _), (hk ▸ Nat.le_refl _)⟩)
theorem sX1_judge_60 : Rn r 86 60 [some (vR z), l1, l2, l3, l4] [vI x0, vR z1] h Q ↔ Rn r 86 61 [some (vR z), l1, l2, l3, l4] [vR z, vI x0, vR z1] h Q := Rn_nx pg86 rfl rfl
theorem sX1_judge_61 (hk : hK h a0 = 2) : Rn r 86 61 [l0, l1, l2, l3, l4] [vR (some a0), vI x1, vR z2] h Q ↔ Rn r 86 64 [l0, l1, l2, l3, l4] [vR (hR h a0 7), vI x1, vR z2] h Q := Rn_nx pg86 rfl (if_pos ⟨(hk ▸ Nat.le_refl _), (hk ▸ Nat.le_refl _)⟩)
theorem sX1_judge_64 : Rn r 86 64 [l0, l1, some (vR z), l3, l4] [vR z0, vI x1, vR z2] h Q ↔ Rn r 86 65 [l0, l1, some (vR z), l3, l4] [vR z, vR z0, vI x1, vR z2] h Q := Rn_nx pg86 rfl rfl
theorem sX1_judge_65 (hk : hK h a0 = 18) : Rn r 86 65 [l0, l1, l2, l3, l4] [vR (some a0), vR z1, vI x2, vR z3] h Q ↔ Rn r 86 68 [l0, l1, l2, l3, l4] [vR (hR h a0 7), vR z1, vI x2, vR z3] h Q := Rn_nx pg86 rfl (if_pos ⟨(hk ▸ Nat.le_refl _), (hk ▸ Nat.le_refl _)⟩)
theorem sX1_judge_68 (hk : hK h a1 = 5) : Rn r 86 68 [l0, l1, l2, l3, l4] [vR z0, vR (some a1), vI x2, vR z3] h Q ↔ Cl r 49 [vR (some a1), vR z0] h (Kt r 86 71 [l0, l1, l2, l3, l4] [vI x2, vR z3] Q) := Rn_call pg86 rfl (by simp only [am_exec, am_inv, am_pop, am_lk, hk]; rfl) pg49 rfl rfl rfl
theorem sX1_judge_71 : Rn r 86 71 [l0, l1, some (vR z), l3, l4] [vI x0, vI x1, vR z2] h Q ↔ Rn r 86 72 [l0, l1, some (vR z), l3, l4] [vR z, vI x0, vI x1, vR z2] h Q := Rn_nx pg86 rfl rfl
theorem sX1_judge_72 (hk : hK h a0 = 18) : Rn r 86 72 [l0, l1, l2, l3, l4] [vR (some a0), vI x1, vI x2, vR z3] h Q ↔ Rn r 86 75 [l0, l1, l2, l3, l4] [vI (hI h a0 2), vI x1, vI x2, vR z3] h Q := Rn_nx pg86 rfl (if_pos ⟨(hk ▸ Nat.le_refl _), (hk ▸ Nat.le_refl _)⟩)
theorem sX1_judge_75 (hk : hK h a3 = 5) : Rn r 86 75 [l0, l1, l2, l3, l4] [vI x0, vI x1, vI x2, vR (some a3)] h Q ↔ Cl r 138 [vR (some a3), vI x2, vI x1, vI x0] h (Kt r 86 78 [l0, l1, l2, l3, l4] [] Q) := Rn_call pg86 rfl (by simp only [am_exec, am_inv, am_pop, am_lk, hk]; rfl) pg138 rfl rfl rfl
theorem sX1_judge_78 : Rn r 86 78 [l0, l1, l2, l3, l4] [] h Q ↔ Rn r 86 79 [l0, l1, l2, l3, l4] [vI 0] h Q := Rn_nx pg86 rfl rfl
theorem sX1_judge_79 : Rn r 86 79 [l0, l1, l2, l3, l4] [vI x0] h Q ↔ Rn r 86 80 [l0, l1, l2, some (vI x0), l4] [] h Q := Rn_nx pg86 rfl rfl
theorem sX1_judge_80 : Rn r 86 80 [l0, l1, some (vR z), l3, l4] [] h Q ↔ Rn r 86 81 [l0, l1, some (vR z), l3, l4] [vR z] h Q := Rn_nx pg86 rfl rfl
theorem sX1_judge_81 (hk : hK h a0 = 18) : Rn r 86 81 [l0, l1, l2, l3, l4] [vR (some a0)] h Q ↔ Rn r 86 84 [l0, l1, l2, l3, l4] [vR (hR h a0 6)] h Q := Rn_nx pg86 rfl (if_pos ⟨(hk ▸ Nat.le_refl _), (hk ▸ Nat.le_refl _)⟩)
theorem sX1_judge_84 : Rn r 86 84 [l0, l1, l2, l3, l4] [vR z0] h Q ↔ if z0 = none then Rn r 86 191 [l0, l1, l2, l3, l4] [] h Q else Rn r 86 87 [l0, l1, l2, l3, l4] [] h Q := Rn_if pg86 rfl rfl rfl
theorem sX1_judge_87 : Rn r 86 87 [l0, l1, l2, some (vI x), l4] [] h Q ↔ Rn r 86 88 [l0, l1, l2, some (vI x), l4] [vI x] h Q := Rn_nx pg86 rfl rfl
theorem sX1_judge_88 : Rn r 86 88 [l0, l1, some (vR z), l3, l4] [vI x0] h Q ↔ Rn r 86 89 [l0, l1, some (vR z), l3, l4] [vR z, vI x0] h Q := Rn_nx pg86 rfl rfl
theorem sX1_judge_89 (hk : hK h a0 = 18) : Rn r 86 89 [l0, l1, l2, l3, l4] [vR (some a0), vI x1] h Q ↔ Rn r 86 92 [l0, l1, l2, l3, l4] [vR (hR h a0 7), vI x1] h Q := Rn_nx pg86 rfl (if_pos ⟨(hk ▸ Nat.le_refl _), (hk ▸ Nat.le_refl _)⟩)
theorem sX1_judge_92 (hk : hK h a0 = 4) : Rn r 86 92 [l0, l1, l2, l3, l4] [vR (some a0), vI x1] h Q ↔ Cl r 34 [vR (some a0)] h (Kt r 86 95 [l0, l1, l2, l3, l4] [vI x1] Q) := Rn_call pg86 rfl (by simp only [am_exec, am_inv, am_pop, am_lk, hk]; rfl) pg34 rfl rfl rfl
theorem sX1_judge_95 : Rn r 86 95 [l0, l1, l2, l3, l4] [vI x0, vI x1] h Q ↔ if x0 ≤ x1 then Rn r 86 191 [l0, l1, l2, l3, l4] [] h Q else Rn r 86 98 [l0, l1, l2, l3, l4] [] h Q := Rn_if pg86 rfl rfl rfl
theorem sX1_judge_98 : Rn r 86 98 [l0, l1, some (vR z), l3, l4] [] h Q ↔ Rn r 86 99 [l0, l1, some (vR z), l3, l4] [vR z] h Q := Rn_nx pg86 rfl rfl
theorem sX1_judge_99 (hk : hK h a0 = 18) : Rn r 86 99 [l0, l1, l2, l3, l4] [vR (some a0)] h Q ↔ Rn r 86 102 [l0, l1, l2, l3, l4] [vR (hR h a0 7)] h Q := Rn_nx pg86 rfl (if_pos ⟨(hk ▸ Nat.le_refl _), (hk ▸ Nat.le_refl _)⟩)
theorem sX1_judge_102 : Rn r 86 102 [l0, l1, l2, some (vI x), l4] [vR z0] h Q ↔ Rn r 86 103 [l0, l1, l2, some (vI x), l4] [vI x, vR z0] h Q := Rn_nx pg86 rfl rfl
theorem sX1_judge_103 (hk : hK h a1 = 4) : Rn r 86 103 [l0, l1, l2, l3, l4] [vI x0, vR (some a1)] h Q ↔ Cl r 43 [vR (some a1), vI x0] h (Kt r 86 106 [l0, l1, l2, l3, l4] [] Q) := Rn_call pg86 rfl (by simp only [am_exec, am_inv, am_pop, am_lk, hk]; rfl) pg43 rfl rfl rfl
theorem sX1_judge_106_n : Rn r 86 106 [l0, l1, l2, l3, l4] [vR none] h Q ↔ Rn r 86 109 [l0, l1, l2, l3, l4] [vR none] h Q := Rn_nx pg86 rfl rfl
theorem sX1_judge_106 (hk : hK h a0 ∈ [19]) : Rn r 86 106 [l0, l1, l2, l3, l4] [vR (some a0)] h Q ↔ Rn r 86 109 [l0, l1, l2, l3, l4] [vR (some a0)] h Q := Rn_nx pg86 rfl (if_pos hk)
theorem sX1_judge_109 (hk : hK h a0 = 19) : Rn r 86 109 [l0, l1, l2, l3, l4] [vR (some a0)] h Q ↔ Rn r 86 112 [l0, l1, l2, l3, l4] [vR (hR h a0 0)] h Q := Rn_nx pg86 rfl (if_pos ⟨(hk ▸ Nat.le_refl _), (hk ▸ Nat.le_refl _)⟩)
theorem sX1_judge_112 : Rn r 86 112 [l0, l1, l2, l3, l4] [vR z0] h Q ↔ Rn r 86 114 [l0, l1, l2, l3, some (vR z0)] [] h Q := Rn_nx pg86 rfl rfl
theorem sX1_judge_114 : Rn r 86 114 [l0, l1, l2, l3, some (vR z)] [] h Q ↔ Rn r 86 116 [l0, l1, l2, l3, some (vR z)] [vR z] h Q := Rn_nx pg86 rfl rfl
theorem sX1_judge_116 : Rn r 86 116 [l0, l1, l2, l3, l4] [vR z0] h Q ↔ if z0 = none then Rn r 86 185 [l0, l1, l2, l3, l4] [] h Q else Rn r 86 119 [l0, l1, l2, l3, l4] [] h Q := Rn_if pg86 rfl rfl rfl
theorem sX1_judge_119 : Rn r 86 119 [some (vR z), l1, l2, l3, l4] [] h Q ↔ Rn r 86 120 [some (vR z), l1, l2, l3, l4] [vR z] h Q := Rn_nx pg86 rfl rfl
theorem sX1_judge_120 (hk : hK h a0 = 2) : Rn r 86 120 [l0, l1, l2, l3, l4] [vR (some a0)] h Q ↔ Rn r 86 123 [l0, l1, l2, l3, l4] [vR (hR h a0 7)] h Q := Rn_nx pg86 rfl (if_pos ⟨(hk ▸ Nat.le_refl _), (hk ▸ Nat.le_refl _)⟩)
theorem sX1_judge_123 : Rn r 86 123 [l0, l1, l2, l3, some (vR z)] [vR z0] h Q ↔ Rn r 86 125 [l0, l1, l2, l3, some (vR z)] [vR z, vR z0] h Q := Rn_nx pg86 rfl rfl
theorem sX1_judge_125 (hk : hK h a1 = 5) : Rn r 86 125 [l0, l1, l2, l3, l4] [vR z0, vR (some a1)] h Q ↔ Cl r 44 [vR (some a1), vR z0] h (Kt r 86 128 [l0, l1, l2, l3, l4] [] Q) := Rn_call pg86 rfl (by simp only [am_exec, am_inv, am_pop, am_lk, hk]; rfl) pg44 rfl rfl rfl
theorem sX1_judge_128 : Rn r 86 128 [l0, l1, l2, l3, l4] [vI x0] h Q ↔ if x0 = 0 then Rn r 86 185 [l0, l1, l2, l3, l4] [] h Q else Rn r 86 131 [l0, l1, l2, l3, l4] [] h Q := Rn_if pg86 rfl rfl rfl
theorem sX1_judge_131 : Rn r 86 131 [some (vR z), l1, l2, l3, l4] [] h Q ↔ Rn r 86 132 [some (vR z), l1, l2, l3, l4] [vR z] h Q := Rn_nx pg86 rfl rfl
theorem sX1_judge_132 (hk : hK h a0 = 2) : Rn r 86 132 [l0, l1, l2, l3, l4] [vR (some a0)] h Q ↔ Rn r 86 135 [l0, l1, l2, l3, l4] [vR (hR h a0 7)] h Q := Rn_nx pg86 rfl (if_pos ⟨(hk ▸ Nat.le_refl _), (hk ▸ Nat.le_refl _)⟩)
theorem sX1_judge_135 : Rn r 86 135 [l0, l1, l2, l3, some (vR z)] [vR z0] h Q ↔ Rn r 86 137 [l0, l1, l2, l3, some (vR z)] [vR z, vR z0] h Q := Rn_nx pg86 rfl rfl
theorem sX1_judge_137 : Rn r 86 137 [some (vR z), l1, l2, l3, l4] [vR z0, vR z1] h Q ↔ Rn r 86 138 [some (vR z), l1, l2, l3, l4] [vR z, vR z0, vR z1] h Q := Rn_nx pg86 rfl rfl
theorem sX1_judge_138 (hk : hK h a0 = 2) : Rn r 86 138 [l0, l1, l2, l3, l4] [vR (some a0), vR z1, vR z2] h Q ↔ Rn r 86 141 [l0, l1, l2, l3, l4] [vR (hR h a0 7), vR z1, vR z2] h Q := Rn_nx pg86 rfl (if_pos ⟨(hk ▸ Nat.le_refl _), (hk ▸ Nat.le_refl _)⟩)
theorem sX1_judge_141 : Rn r 86 141 [l0, l1, some (vR z), l3, l4] [vR z0, vR z1, vR z2] h Q ↔ Rn r 86 142 [l0, l1, some (vR z), l3, l4] [vR z, vR z0, vR z1, vR z2] h Q := Rn_nx pg86 rfl rfl
theorem sX1_judge_142 (hk : hK h a0 = 18) : Rn r 86 142 [l0, l1, l2, l3, l4] [vR (some a0), vR z1, vR z2, vR z3] h Q ↔ Rn r 86 145 [l0, l1, l2, l3, l4] [vR (hR h a0 6), vR z1, vR z2, vR z3] h Q := Rn_nx pg86 rfl (if_pos ⟨(hk ▸ Nat.le_refl _), (hk ▸ Nat.le_refl _)⟩)
theorem sX1_judge_145 (hk : hK h a0 = 18) : Rn r 86 145 [l0, l1, l2, l3, l4] [vR (some a0), vR z1, vR z2, vR z3] h Q ↔ Rn r 86 148 [l0, l1, l2, l3, l4] [vR (hR h a0 7), vR z1, vR z2, vR z3] h Q := Rn_nx pg86 rfl (if_pos ⟨(hk ▸ Nat.le_refl _), (hk ▸ Nat.le_refl _)⟩)
theorem sX1_judge_148 (hk : hK h a1 = 5) : Rn r 86 148 [l0, l1, l2, l3, l4] [vR z0, vR (some a1), vR z2, vR z3] h Q ↔ Cl r 49 [vR (some a1), vR z0] h (Kt r 86 151 [l0, l1, l2, l3, l4] [vR z2, vR z3] Q) := Rn_call pg86 rfl (by simp only [am_exec, am_inv, am_pop, am_lk, hk]; rfl) pg49 rfl rfl rfl
theorem sX1_judge_151 (hk : hK h a2 = 5) : Rn r 86 151 [l0, l1, l2, l3, l4] [vI x0, vR z1, vR (some a2)] h Q ↔ Cl r 139 [vR (some a2), vR z1, vI x0] h (Kt r 86 154 [l0, l1, l2, l3, l4] [] Q) := Rn_call pg86 rfl (by simp only [am_exec, am_inv, am_pop, am_lk, hk]; rfl) pg139 rfl rfl rfl
theorem sX1_judge_154 : Rn r 86 154 [l0, l1, l2, l3, l4] [vI x0] h Q ↔ if x0 ≠ 0 then Rn r 86 185 [l0, l1, l2, l3, l4] [] h Q else Rn r 86 157 [l0, l1, l2, l3, l4] [] h Q := Rn_if pg86 rfl rfl rfl
theorem sX1_judge_157 : Rn r 86 157 [some (vR z), l1, l2, l3, l4] [] h Q ↔ Rn r 86 158 [some (vR z), l1, l2, l3, l4] [vR z] h Q := Rn_nx pg86 rfl rfl
theorem sX1_judge_158 (hk : hK h a0 = 2) : Rn r 86 158 [l0, l1, l2, l3, l4] [vR (some a0)] h Q ↔ Rn r 86 161 [l0, l1, l2, l3, l4] [vR (hR h a0 7)] h Q := Rn_nx pg86 rfl (if_pos ⟨(hk ▸ Nat.le_refl _), (hk ▸ Nat.le_refl _)⟩)
theorem sX1_judge_161 : Rn r 86 161 [l0, l1, l2, l3, l4] [vR z0] h Q ↔ Rn r 86 163 [l0, l1, l2, l3, l4] [vI 10, vR z0] h Q := Rn_nx pg86 rfl rfl
theorem sX1_judge_163 : Rn r 86 163 [l0, l1, some (vR z), l3, l4] [vI x0, vR z1] h Q ↔ Rn r 86 164 [l0, l1, some (vR z), l3, l4] [vR z, vI x0, vR z1] h Q := Rn_nx pg86 rfl rfl
theorem sX1_judge_164 (hk : hK h a0 = 18) : Rn r 86 164 [l0, l1, l2, l3, l4] [vR (some a0), vI x1, vR z2] h Q ↔ Rn r 86 167 [l0, l1, l2, l3, l4] [vR (hR h a0 7), vI x1, vR z2] h Q := Rn_nx pg86 rfl (if_pos ⟨(hk ▸ Nat.le_refl _), (hk ▸ Nat.le_refl _)⟩)
theorem sX1_judge_167 : Rn r 86 167 [l0, l1, l2, some (vI x), l4] [vR z0, vI x1, vR z2] h Q ↔ Rn r 86 168 [l0, l1, l2, some (vI x), l4] [vI x, vR z0, vI x1, vR z2] h Q := Rn_nx pg86 rfl rfl
theorem sX1_judge_168 (hk : hK h a1 = 4) : Rn r 86 168 [l0, l1, l2, l3, l4] [vI x0, vR (some a1), vI x2, vR z3] h Q ↔ Cl r 43 [vR (some a1), vI x0] h (Kt r 86 171 [l0, l1, l2, l3, l4] [vI x2, vR z3] Q) := Rn_call pg86 rfl (by simp only [am_exec, am_inv, am_pop, am_lk, hk]; rfl) pg43 rfl rfl rfl
theorem sX1_judge_171_n : Rn r 86 171 [l0, l1, l2, l3, l4] [vR none, vI x1, vR z2] h Q ↔ Rn r 86 174 [l0, l1, l2, l3, l4] [vR none, vI x1, vR z2] h Q := Rn_nx pg86 rfl rfl
theorem sX1_judge_171 (hk : hK h a0 ∈ [19]) : Rn r 86 171 [l0, l1, l2, l3, l4] [vR (some a0), vI x1, vR z2] h Q ↔ Rn r 86 174 [l0, l1, l2, l3, l4] [vR (some a0), vI x1, vR z2] h Q := Rn_nx pg86 rfl (if_pos hk)
theorem sX1_judge_174 (hk : hK h a0 = 19) : Rn r 86 174 [l0, l1, l2, l3, l4] [vR (some a0), vI x1, vR z2] h Q ↔ Rn r 86 177 [l0, l1, l2, l3, l4] [vI (hI h a0 1), vI x1, vR z2] h Q := Rn_nx pg86 rfl (if_pos ⟨(hk ▸ Nat.le_refl _), (hk ▸ Nat.le_refl _)⟩)
theorem sX1_judge_177 : Rn r 86 177 [l0, l1, l2, l3, some (vR z)] [vI x0, vI x1, vR z2] h Q ↔ Rn r 86 179 [l0, l1, l2, l3, some (vR z)] [vR z, vI x0, vI x1, vR z2] h Q := Rn_nx pg86 rfl rfl
theorem sX1_judge_179 (hk : hK h a0 = 7) : Rn r 86 179 [l0, l1, l2, l3, l4] [vR (some a0), vI x1, vI x2, vR z3] h Q ↔ Rn r 86 182 [l0, l1, l2, l3, l4] [vI (hI h a0 1), vI x1, vI x2, vR z3] h Q := Rn_nx pg86 rfl (if_pos ⟨(hk ▸ Nat.le_refl _), (hk ▸ Nat.le_refl _)⟩)
theorem sX1_judge_182 (hk : hK h a3 = 5) : Rn r 86 182 [l0, l1, l2, l3, l4] [vI x0, vI x1, vI x2, vR (some a3)] h Q ↔ Cl r 130 [vR (some a3), vI x2, vI x1, vI x0] h (Kt r 86 185 [l0, l1, l2, l3, l4] [] Q) := Rn_call pg86 rfl (by simp only [am_exec, am_inv, am_pop, am_lk, hk]; rfl) pg130 rfl rfl rfl
theorem sX1_judge_185 : Rn r 86 185 [l0, l1, l2, some (vI x), l4] [] h Q ↔ Rn r 86 188 [l0, l1, l2, some (vI (x + 1)), l4] [] h Q := Rn_nx pg86 rfl rfl
theorem sX1_judge_188 : Rn r 86 188 [l0, l1, l2, l3, l4] [] h Q ↔ Rn r 86 80 [l0, l1, l2, l3, l4] [] h Q := Rn_nx pg86 rfl rfl
theorem sX1_judge_191 : Rn r 86 191 [l0, some (vI x), l2, l3, l4] [] h Q ↔ Rn r 86 194 [l0, some (vI (x + 1)), l2, l3, l4] [] h Q := Rn_nx pg86 rfl rfl
theorem sX1_judge_194 : Rn r 86 194 [l0, l1, l2, l3, l4] [] h Q ↔ Rn r 86 2 [l0, l1, l2, l3, l4] [] h Q := Rn_nx pg86 rfl rfl
theorem sX1_judge_197 : Rn r 86 197 [l0, l1, l2, l3, l4] [] h Q ↔ Q (Sum.inl none) h := Rn_end pg86 rfl rfl
/-! 87 ThrowRulesModel.isSign(I)Z -/
theorem eX6_isSign : Cl r 87 [vI x0] h Q ↔ Rn r 87 0 [some (vI x0)] [] h Q := Cl_in pg87 rfl
theorem sX6_isSign_0 : Rn r 87 0 [some (vI x)] [] h Q ↔ Rn r 87 1 [some (vI x)] [vI x] h Q := Rn_nx pg87 rfl rfl
theorem sX6_isSign_1 : Rn r 87 1 [l0] [vI x0] h Q ↔ Rn r 87 3 [l0] [vI 123, vI x0] h Q := Rn_nx pg87 rfl rfl
theorem sX6_isSign_3 : Rn r 87 3 [l0] [vI x0, vI x1] h Q ↔ if x1 = x0 then Rn r 87 42 [l0] [] h Q else Rn r 87 6 [l0] [] h Q := Rn_if pg87 rfl rfl rfl
theorem sX6_isSign_6 : Rn r 87 6 [some (vI x)] [] h Q ↔ Rn r 87 7 [some (vI x)] [vI x] h Q := Rn_nx pg87 rfl rfl
theorem sX6_isSign_7 : Rn r 87 7 [l0] [vI x0] h Q ↔ Rn r 87 9 [l0] [vI 125, vI x0] h Q := Rn_nx pg87 rfl rfl
theorem sX6_isSign_9 : Rn r 87 9 [l0] [vI x0, vI x1] h Q ↔ if x1 = x0 then Rn r 87 42 [l0] [] h Q else Rn r 87 12 [l0] [] h Q := Rn_if pg87 rfl rfl rfl
theorem sX6_isSign_12 : Rn r 87 12 [some (vI x)] [] h Q ↔ Rn r 87 13 [some (vI x)] [vI x] h Q := Rn_nx pg87 rfl rfl
theorem sX6_isSign_13 : Rn r 87 13 [l0] [vI x0] h Q ↔ Rn r 87 15 [l0] [vI 40, vI x0] h Q := Rn_nx pg87 rfl rfl
theorem sX6_isSign_15 : Rn r 87 15 [l0] [vI x0, vI x1] h Q ↔ if x1 = x0 then Rn r 87 42 [l0] [] h Q else Rn r 87 18 [l0] [] h Q := Rn_if pg87 rfl rfl rfl
theorem sX6_isSign_18 : Rn r 87 18 [some (vI x)] [] h Q ↔ Rn r 87 19 [some (vI x)] [vI x] h Q := Rn_nx pg87 rfl rfl
theorem sX6_isSign_19 : Rn r 87 19 [l0] [vI x0] h Q ↔ Rn r 87 21 [l0] [vI 41, vI x0] h Q := Rn_nx pg87 rfl rfl
theorem sX6_isSign_21 : Rn r 87 21 [l0] [vI x0, vI x1] h Q ↔ if x1 = x0 then Rn r 87 42 [l0] [] h Q else Rn r 87 24 [l0] [] h Q := Rn_if pg87 rfl rfl rfl
theorem sX6_isSign_24 : Rn r 87 24 [some (vI x)] [] h Q ↔ Rn r 87 25 [some (vI x)] [vI x] h Q := Rn_nx pg87 rfl rfl
theorem sX6_isSign_25 : Rn r 87 25 [l0] [vI x0] h Q ↔ Rn r 87 27 [l0] [vI 124, vI x0] h Q := Rn_nx pg87 rfl rfl
theorem sX6_isSign_27 : Rn r 87 27 [l0] [vI x0, vI x1] h Q ↔ if x1 = x0 then Rn r 87 42 [l0] [] h Q else Rn r 87 30 [l0] [] h Q := Rn_if pg87 rfl rfl rfl
theorem sX6_isSign_30 : Rn r 87 30 [some (vI x)] [] h Q ↔ Rn r 87 31 [some (vI x)] [vI x] h Q := Rn_nx pg87 rfl rfl
theorem sX6_isSign_31 : Rn r 87 31 [l0] [vI x0] h Q ↔ Rn r 87 33 [l0] [vI 59, vI x0] h Q := Rn_nx pg87 rfl rfl
theorem sX6_isSign_33 : Rn r 87 33 [l0] [vI x0, vI x1] h Q ↔ if x1 = x0 then Rn r 87 42 [l0] [] h Q else Rn r 87 36 [l0] [] h Q := Rn_if pg87 rfl rfl rfl
theorem sX6_isSign_36 : Rn r 87 36 [some (vI x)] [] h Q ↔ Rn r 87 37 [some (vI x)] [vI x] h Q := Rn_nx pg87 rfl rfl
theorem sX6_isSign_37 : Rn r 87 37 [l0] [vI x0] h Q ↔ Rn r 87 39 [l0] [vI 44, vI x0] h Q := Rn_nx pg87 rfl rfl
theorem sX6_isSign_39 : Rn r 87 39 [l0] [vI x0, vI x1] h Q ↔ if x1 ≠ x0 then Rn r 87 46 [l0] [] h Q else Rn r 87 42 [l0] [] h Q := Rn_if pg87 rfl rfl rfl
theorem sX6_isSign_42 : Rn r 87 42 [l0] [] h Q ↔ Rn r 87 43 [l0] [vI 1] h Q := Rn_nx pg87 rfl rfl
theorem sX6_isSign_43 : Rn r 87 43 [l0] [vI x0] h Q ↔ Rn r 87 47 [l0] [vI x0] h Q := Rn_nx pg87 rfl rfl
theorem sX6_isSign_46 : Rn r 87 46 [l0] [] h Q ↔ Rn r 87 47 [l0] [vI 0] h Q := Rn_nx pg87 rfl rfl
theorem sX6_isSign_47 (hf : am_fit 4 x0 = true) : Rn r 87 47 [l0] [vI x0] h Q ↔ Q (Sum.inl (some (vI x0))) h := Rn_end pg87 rfl (if_pos hf)
/-! 88 ThrowRulesModel.takeName()Z -/
theorem eX6_takeName : Cl r 88 [vR z0] h Q ↔ Rn r 88 0 [some (vR z0)] [] h Q := Cl_in pg88 rfl
theorem sX6_takeName_0 : Rn r 88 0 [some (vR z)] [] h Q ↔ Rn r 88 1 [some (vR z)] [vR z] h Q := Rn_nx pg88 rfl rfl
theorem sX6_takeName_1 (hk : hK h a0 = 15) : Rn r 88 1 [l0] [vR (some a0)] h Q ↔ Rn r 88 4 [l0] [vL (hJ h a0 50)] h Q := Rn_nx pg88 rfl (if_pos ⟨(hk ▸ Nat.le_refl _), (hk ▸ Nat.le_refl _)⟩)
theorem sX6_takeName_4 : Rn r 88 4 [l0] [vL y0] h Q ↔ Rn r 88 5 [l0] [vL 0, vL y0] h Q := Rn_nx pg88 rfl rfl
theorem sX6_takeName_5 : Rn r 88 5 [l0] [vL y0, vL y1] h Q ↔ Rn r 88 6 [l0] [vI (lg_cmp y1 y0)] h Q := Rn_nx pg88 rfl rfl
theorem sX6_takeName_6 : Rn r 88 6 [l0] [vI x0] h Q ↔ if x0 = 0 then Rn r 88 19 [l0] [] h Q else Rn r 88 9 [l0] [] h Q := Rn_if pg88 rfl rfl rfl
theorem sX6_takeName_9 : Rn r 88 9 [some (vR z)] [] h Q ↔ Rn r 88 10 [some (vR z)] [vR z] h Q := Rn_nx pg88 rfl rfl
theorem sX6_takeName_10 (hk : hK h a0 = 15) : Rn r 88 10 [l0] [vR (some a0)] h Q ↔ Rn r 88 13 [l0] [vL (hJ h a0 50)] h Q := Rn_nx pg88 rfl (if_pos ⟨(hk ▸ Nat.le_refl _), (hk ▸ Nat.le_refl _)⟩)
theorem sX6_takeName_13 : Rn r 88 13 [l0] [vL y0] h Q ↔ Cl r 68 [vL y0] h (Kt r 88 16 [l0] [] Q) := Rn_call pg88 rfl rfl pg68 rfl rfl rfl
theorem sX6_takeName_16 : Rn r 88 16 [l0] [vI x0] h Q ↔ if x0 = 0 then Rn r 88 24 [l0] [] h Q else Rn r 88 19 [l0] [] h Q := Rn_if pg88 rfl rfl rfl
theorem sX6_takeName_19 : Rn r 88 19 [some (vR z)] [] h Q ↔ Rn r 88 20 [some (vR z)] [vR z] h Q := Rn_nx pg88 rfl rfl
theorem sX6_takeName_20 (hk : hK h a0 = 15) : Rn r 88 20 [l0] [vR (some a0)] h Q ↔ Cl r 39 [vR (some a0)] h (Kt r 88 23 [l0] [] Q) := Rn_call pg88 rfl (by simp only [am_exec, am_inv, am_pop, am_lk, hk]; rfl) pg39 rfl rfl rfl
theorem sX6_takeName_23 (hf : am_fit 4 x0 = true) : Rn r 88 23 [l0] [vI x0] h Q ↔ Q (Sum.inl (some (vI x0))) h := Rn_end pg88 rfl (if_pos hf)
theorem sX6_takeName_24 : Rn r 88 24 [some (vR z)] [] h Q ↔ Rn r 88 25 [some (vR z)] [vR z] h Q := Rn_nx pg88 rfl rfl
theorem sX6_takeName_25 : Rn r 88 25 [some (vR z)] [vR z0] h Q ↔ Rn r 88 26 [some (vR z)] [vR z, vR z0] h Q := Rn_nx pg88 rfl rfl
theorem sX6_takeName_26 (hk : hK h a0 = 15) : Rn r 88 26 [l0] [vR (some a0), vR z1] h Q ↔ Rn r 88 29 [l0] [vL (hJ h a0 50), vR z1] h Q := Rn_nx pg88 rfl (if_pos ⟨(hk ▸ Nat.le_refl _), (hk ▸ Nat.le_refl _)⟩)
theorem sX6_takeName_29 (hk : hK h a1 = 15) : Rn r 88 29 [l0] [vL y0, vR (some a1)] h Q ↔ Rn r 88 32 [l0] [] (putJ h a1 53 y0) Q := Rn_nx pg88 rfl ((if_pos ⟨(hk ▸ Nat.le_refl _), (hk ▸ Nat.le_refl _)⟩).trans rfl)
theorem sX6_takeName_32 : Rn r 88 32 [some (vR z)] [] h Q ↔ Rn r 88 33 [some (vR z)] [vR z] h Q := Rn_nx pg88 rfl rfl
theorem sX6_takeName_33 : Rn r 88 33 [some (vR z)] [vR z0] h Q ↔ Rn r 88 34 [some (vR z)] [vR z, vR z0] h Q := Rn_nx pg88 rfl rfl
theorem sX6_takeName_34 (hk : hK h a0 = 15) : Rn r 88 34 [l0] [vR (some a0), vR z1] h Q ↔ Rn r 88 37 [l0] [vI (hI h a0 49), vR z1] h Q := Rn_nx pg88 rfl (if_pos ⟨(hk ▸ Nat.le_refl _), (hk ▸ Nat.le_refl _)⟩)
theorem sX6_takeName_37 (hk : hK h a1 = 15) : Rn r 88 37 [l0] [vI x0, vR (some a1)] h Q ↔ Rn r 88 40 [l0] [] (putI h a1 54 x0) Q := Rn_nx pg88 rfl ((if_pos ⟨(hk ▸ Nat.le_refl _), (hk ▸ Nat.le_refl _)⟩).trans rfl)
theorem sX6_takeName_40 : Rn r 88 40 [some (vR z)] [] h Q ↔ Rn r 88 41 [some (vR z)] [vR z] h Q := Rn_nx pg88 rfl rfl
theorem sX6_takeName_41 (hk : hK h a0 = 15) : Rn r 88 41 [l0] [vR (some a0)] h Q ↔ Cl r 35 [vR (some a0)] h (Kt r 88 44 [l0] [] Q) := Rn_call pg88 rfl (by simp only [am_exec, am_inv, am_pop, am_lk, hk]; rfl) pg35 rfl rfl rfl
theorem sX6_takeName_44 : Rn r 88 44 [l0] [] h Q ↔ Rn r 88 45 [l0] [vI 1] h Q := Rn_nx pg88 rfl rfl
theorem sX6_takeName_45 (hf : am_fit 4 x0 = true) : Rn r 88 45 [l0] [vI x0] h Q ↔ Q (Sum.inl (some (vI x0))) h := Rn_end pg88 rfl (if_pos hf)
/-! 89 ThrowRulesModel.takeWord(J)Z -/
theorem eX6_takeWord : Cl r 89 [vR z0, vL y1] h Q ↔ Rn r 89 0 [some (vR z0), some (vL y1), none] [] h Q := Cl_in pg89 rfl
theorem sX6_takeWord_0 : Rn r 89 0 [some (vR z), l1, l2] [] h Q ↔ Rn r 89 1 [some (vR z), l1, l2] [vR z] h Q := Rn_nx pg89 rfl rfl
theorem sX6_takeWord_1 (hk : hK h a0 = 15) : Rn r 89 1 [l0, l1, l2] [vR (some a0)] h Q ↔ Rn r 89 4 [l0, l1, l2] [vL (hJ h a0 50)] h Q := Rn_nx pg89 rfl (if_pos ⟨(hk ▸ Nat.le_refl _), (hk ▸ Nat.le_refl _)⟩)
theorem sX6_takeWord_4 : Rn r 89 4 [l0, some (vL y), l2] [vL y0] h Q ↔ Rn r 89 5 [l0, some (vL y), l2] [vL y, vL y0] h Q := Rn_nx pg89 rfl rfl
theorem sX6_takeWord_5 : Rn r 89 5 [l0, l1, l2] [vL y0, vL y1] h Q ↔ Rn r 89 6 [l0, l1, l2] [vI (lg_cmp y1 y0)] h Q := Rn_nx pg89 rfl rfl
theorem sX6_takeWord_6 : Rn r 89 6 [l0, l1, l2] [vI x0] h Q ↔ if x0 = 0 then Rn r 89 14 [l0, l1, l2] [] h Q else Rn r 89 9 [l0, l1, l2] [] h Q := Rn_if pg89 rfl rfl rfl
theorem sX6_takeWord_9 : Rn r 89 9 [some (vR z), l1, l2] [] h Q ↔ Rn r 89 10 [some (vR z), l1, l2] [vR z] h Q := Rn_nx pg89 rfl rfl
theorem sX6_takeWord_10 (hk : hK h a0 = 15) : Rn r 89 10 [l0, l1, l2] [vR (some a0)] h Q ↔ Cl r 39 [vR (some a0)] h (Kt r 89 13 [l0, l1, l2] [] Q) := Rn_call pg89 rfl (by simp only [am_exec, am_inv, am_pop, am_lk, hk]; rfl) pg39 rfl rfl rfl
theorem sX6_takeWord_13 (hf : am_fit 4 x0 = true) : Rn r 89 13 [l0, l1, l2] [vI x0] h Q ↔ Q (Sum.inl (some (vI x0))) h := Rn_end pg89 rfl (if_pos hf)
theorem sX6_takeWord_14 : Rn r 89 14 [some (vR z), l1, l2] [] h Q ↔ Rn r 89 15 [some (vR z), l1, l2] [vR z] h Q := Rn_nx pg89 rfl rfl
theorem sX6_takeWord_15 (hk : hK h a0 = 15) : Rn r 89 15 [l0, l1, l2] [vR (some a0)] h Q ↔ Cl r 35 [vR (some a0)] h (Kt r 89 18 [l0, l1, l2] [] Q) := Rn_call pg89 rfl (by simp only [am_exec, am_inv, am_pop, am_lk, hk]; rfl) pg35 rfl rfl rfl
theorem sX6_takeWord_18 : Rn r 89 18 [l0, l1, l2] [] h Q ↔ Rn r 89 19 [l0, l1, l2] [vI 1] h Q := Rn_nx pg89 rfl rfl
theorem sX6_takeWord_19 (hf : am_fit 4 x0 = true) : Rn r 89 19 [l0, l1, l2] [vI x0] h Q ↔ Q (Sum.inl (some (vI x0))) h := Rn_end pg89 rfl (if_pos hf)
/-! 90 ThrowRulesModel.take(I)Z -/
theorem eX6_take : Cl r 90 [vR z0, vI x1] h Q ↔ Rn r 90 0 [some (vR z0), some (vI x1)] [] h Q := Cl_in pg90 rfl
theorem sX6_take_0 : Rn r 90 0 [some (vR z), l1] [] h Q ↔ Rn r 90 1 [some (vR z), l1] [vR z] h Q := Rn_nx pg90 rfl rfl
theorem sX6_take_1 (hk : hK h a0 = 15) : Rn r 90 1 [l0, l1] [vR (some a0)] h Q ↔ Rn r 90 4 [l0, l1] [vI (hI h a0 51)] h Q := Rn_nx pg90 rfl (if_pos ⟨(hk ▸ Nat.le_refl _), (hk ▸ Nat.le_refl _)⟩)
theorem sX6_take_4 : Rn r 90 4 [l0, some (vI x)] [vI x0] h Q ↔ Rn r 90 5 [l0, some (vI x)] [vI x, vI x0] h Q := Rn_nx pg90 rfl rfl
theorem sX6_take_5 : Rn r 90 5 [l0, l1] [vI x0, vI x1] h Q ↔ if x1 = x0 then Rn r 90 13 [l0, l1] [] h Q else Rn r 90 8 [l0, l1] [] h Q := Rn_if pg90 rfl rfl rfl
theorem sX6_take_8 : Rn r 90 8 [some (vR z), l1] [] h Q ↔ Rn r 90 9 [some (vR z), l1] [vR z] h Q := Rn_nx pg90 rfl rfl
theorem sX6_take_9 (hk : hK h a0 = 15) : Rn r 90 9 [l0, l1] [vR (some a0)] h Q ↔ Cl r 39 [vR (some a0)] h (Kt r 90 12 [l0, l1] [] Q) := Rn_call pg90 rfl (by simp only [am_exec, am_inv, am_pop, am_lk, hk]; rfl) pg39 rfl rfl rfl
theorem sX6_take_12 (hf : am_fit 4 x0 = true) : Rn r 90 12 [l0, l1] [vI x0] h Q ↔ Q (Sum.inl (some (vI x0))) h := Rn_end pg90 rfl (if_pos hf)
theorem sX6_take_13 : Rn r 90 13 [some (vR z), l1] [] h Q ↔ Rn r 90 14 [some (vR z), l1] [vR z] h Q := Rn_nx pg90 rfl rfl
theorem sX6_take_14 (hk : hK h a0 = 15) : Rn r 90 14 [l0, l1] [vR (some a0)] h Q ↔ Cl r 35 [vR (some a0)] h (Kt r 90 17 [l0, l1] [] Q) := Rn_call pg90 rfl (by simp only [am_exec, am_inv, am_pop, am_lk, hk]; rfl) pg35 rfl rfl rfl
theorem sX6_take_17 : Rn r 90 17 [l0, l1] [] h Q ↔ Rn r 90 18 [l0, l1] [vI 1] h Q := Rn_nx pg90 rfl rfl
theorem sX6_take_18 (hf : am_fit 4 x0 = true) : Rn r 90 18 [l0, l1] [vI x0] h Q ↔ Q (Sum.inl (some (vI x0))) h := Rn_end pg90 rfl (if_pos hf)
/-! 91 ThrowRulesModel.opened(III)I -/
theorem eX6_opened : Cl r 91 [vR z0, vI x1, vI x2, vI x3] h Q ↔ Rn r 91 0 [some (vR z0), some (vI x1), some (vI x2), some (vI x3), none] [] h Q := Cl_in pg91 rfl
theorem sX6_opened_0 : Rn r 91 0 [some (vR z), l1, l2, l3, l4] [] h Q ↔ Rn r 91 1 [some (vR z), l1, l2, l3, l4] [vR z] h Q := Rn_nx pg91 rfl rfl
theorem sX6_opened_1 (hk : hK h a0 = 15) : Rn r 91 1 [l0, l1, l2, l3, l4] [vR (some a0)] h Q ↔ Rn r 91 4 [l0, l1, l2, l3, l4] [vI (hI h a0 51)] h Q := Rn_nx pg91 rfl (if_pos ⟨(hk ▸ Nat.le_refl _), (hk ▸ Nat.le_refl _)⟩)
theorem sX6_opened_4 : Rn r 91 4 [l0, l1, l2, l3, l4] [vI x0] h Q ↔ Rn r 91 6 [l0, l1, l2, l3, l4] [vI 123, vI x0] h Q := Rn_nx pg91 rfl rfl
theorem sX6_opened_6 : Rn r 91 6 [l0, l1, l2, l3, l4] [vI x0, vI x1] h Q ↔ if x1 ≠ x0 then Rn r 91 18 [l0, l1, l2, l3, l4] [] h Q else Rn r 91 9 [l0, l1, l2, l3, l4] [] h Q := Rn_if pg91 rfl rfl rfl
theorem sX6_opened_9 : Rn r 91 9 [some (vR z), l1, l2, l3, l4] [] h Q ↔ Rn r 91 10 [some (vR z), l1, l2, l3, l4] [vR z] h Q := Rn_nx pg91 rfl rfl
theorem sX6_opened_10 (hk : hK h a0 = 15) : Rn r 91 10 [l0, l1, l2, l3, l4] [vR (some a0)] h Q ↔ Rn r 91 13 [l0, l1, l2, l3, l4] [vI (hI h a0 55)] h Q := Rn_nx pg91 rfl (if_pos ⟨(hk ▸ Nat.le_refl _), (hk ▸ Nat.le_refl _)⟩)
theorem sX6_opened_13 : Rn r 91 13 [l0, l1, l2, l3, l4] [vI x0] h Q ↔ Rn r 91 15 [l0, l1, l2, l3, l4] [vI 8, vI x0] h Q := Rn_nx pg91 rfl rfl
theorem sX6_opened_15 : Rn r 91 15 [l0, l1, l2, l3, l4] [vI x0, vI x1] h Q ↔ if x1 ≠ x0 then Rn r 91 25 [l0, l1, l2, l3, l4] [] h Q else Rn r 91 18 [l0, l1, l2, l3, l4] [] h Q := Rn_if pg91 rfl rfl rfl
theorem sX6_opened_18 : Rn r 91 18 [some (vR z), l1, l2, l3, l4] [] h Q ↔ Rn r 91 19 [some (vR z), l1, l2, l3, l4] [vR z] h Q := Rn_nx pg91 rfl rfl
theorem sX6_opened_19 (hk : hK h a0 = 15) : Rn r 91 19 [l0, l1, l2, l3, l4] [vR (some a0)] h Q ↔ Cl r 39 [vR (some a0)] h (Kt r 91 22 [l0, l1, l2, l3, l4] [] Q) := Rn_call pg91 rfl (by simp only [am_exec, am_inv, am_pop, am_lk, hk]; rfl) pg39 rfl rfl rfl
theorem sX6_opened_22 : Rn r 91 22 [l0, l1, l2, l3, l4] [vI x0] h Q ↔ Rn r 91 23 [l0, l1, l2, l3, l4] [] h Q := Rn_nx pg91 rfl rfl
theorem sX6_opened_23 : Rn r 91 23 [l0, l1, l2, l3, l4] [] h Q ↔ Rn r 91 24 [l0, l1, l2, l3, l4] [vI (-1)] h Q := Rn_nx pg91 rfl rfl
theorem sX6_opened_24 : Rn r 91 24 [l0, l1, l2, l3, l4] [vI x0] h Q ↔ Q (Sum.inl (some (vI x0))) h := Rn_end pg91 rfl rfl
theorem sX6_opened_25 : Rn r 91 25 [some (vR z), l1, l2, l3, l4] [] h Q ↔ Rn r 91 26 [some (vR z), l1, l2, l3, l4] [vR z] h Q := Rn_nx pg91 rfl rfl
theorem sX6_opened_26 (hk : hK h a0 = 15) : Rn r 91 26 [l0, l1, l2, l3, l4] [vR (some a0)] h Q ↔ Rn r 91 29 [l0, l1, l2, l3, l4] [vI (hI h a0 2)] h Q := Rn_nx pg91 rfl (if_pos ⟨(hk ▸ Nat.le_refl _), (hk ▸ Nat.le_refl _)⟩)
theorem sX6_opened_29 : Rn r 91 29 [l0, l1, l2, l3, l4] [vI x0] h Q ↔ Rn r 91 32 [l0, l1, l2, l3, l4] [vI 1024, vI x0] h Q := Rn_nx pg91 rfl rfl
theorem sX6_opened_32 : Rn r 91 32 [l0, l1, l2, l3, l4] [vI x0, vI x1] h Q ↔ Rn r 91 33 [l0, l1, l2, l3, l4] [vI (x1 * x0)] h Q := Rn_nx pg91 rfl rfl
theorem sX6_opened_33 : Rn r 91 33 [some (vR z), l1, l2, l3, l4] [vI x0] h Q ↔ Rn r 91 34 [some (vR z), l1, l2, l3, l4] [vR z, vI x0] h Q := Rn_nx pg91 rfl rfl
theorem sX6_opened_34 (hk : hK h a0 = 15) : Rn r 91 34 [l0, l1, l2, l3, l4] [vR (some a0), vI x1] h Q ↔ Rn r 91 37 [l0, l1, l2, l3, l4] [vR (hR h a0 40), vI x1] h Q := Rn_nx pg91 rfl (if_pos ⟨(hk ▸ Nat.le_refl _), (hk ▸ Nat.le_refl _)⟩)
theorem sX6_opened_37 : Rn r 91 37 [some (vR z), l1, l2, l3, l4] [vR z0, vI x1] h Q ↔ Rn r 91 38 [some (vR z), l1, l2, l3, l4] [vR z, vR z0, vI x1] h Q := Rn_nx pg91 rfl rfl
theorem sX6_opened_38 (hk : hK h a0 = 15) : Rn r 91 38 [l0, l1, l2, l3, l4] [vR (some a0), vR z1, vI x2] h Q ↔ Rn r 91 41 [l0, l1, l2, l3, l4] [vI (hI h a0 2), vR z1, vI x2] h Q := Rn_nx pg91 rfl (if_pos ⟨(hk ▸ Nat.le_refl _), (hk ▸ Nat.le_refl _)⟩)
theorem sX6_opened_41 (hk : 40 ≤ hK h a1) (hk2 : hK h a1 ≤ 41) (hx : ¬ (x0 < 0 ∨ hL h a1 ≤ x0.toNatClampNeg)) : Rn r 91 41 [l0, l1, l2, l3, l4] [vI x0, vR (some a1), vI x2] h Q ↔ Rn r 91 42 [l0, l1, l2, l3, l4] [vI (hI h a1 x0.toNatClampNeg), vI x2] h Q := Rn_nx pg91 rfl ((if_pos ⟨hk, hk2⟩).trans (if_neg hx))
theorem sX6_opened_42 : Rn r 91 42 [l0, l1, l2, l3, l4] [vI x0, vI x1] h Q ↔ Rn r 91 43 [l0, l1, l2, l3, l4] [vI (x1 + x0)] h Q := Rn_nx pg91 rfl rfl
theorem sX6_opened_43 : Rn r 91 43 [l0, l1, l2, l3, l4] [vI x0] h Q ↔ Rn r 91 45 [l0, l1, l2, l3, some (vI x0)] [] h Q := Rn_nx pg91 rfl rfl
theorem sX6_opened_45 : Rn r 91 45 [some (vR z), l1, l2, l3, l4] [] h Q ↔ Rn r 91 46 [some (vR z), l1, l2, l3, l4] [vR z] h Q := Rn_nx pg91 rfl rfl
theorem sX6_opened_46 (hk : hK h a0 = 15) : Rn r 91 46 [l0, l1, l2, l3, l4] [vR (some a0)] h Q ↔ Rn r 91 49 [l0, l1, l2, l3, l4] [vR (hR h a0 40)] h Q := Rn_nx pg91 rfl (if_pos ⟨(hk ▸ Nat.le_refl _), (hk ▸ Nat.le_refl _)⟩)
theorem sX6_opened_49 : Rn r 91 49 [some (vR z), l1, l2, l3, l4] [vR z0] h Q ↔ Rn r 91 50 [some (vR z), l1, l2, l3, l4] [vR z, vR z0] h Q := Rn_nx pg91 rfl rfl
theorem sX6_opened_50 (hk : hK h a0 = 15) : Rn r 91 50 [l0, l1, l2, l3, l4] [vR (some a0), vR z1] h Q ↔ Rn r 91 53 [l0, l1, l2, l3, l4] [vI (hI h a0 2), vR z1] h Q := Rn_nx pg91 rfl (if_pos ⟨(hk ▸ Nat.le_refl _), (hk ▸ Nat.le_refl _)⟩)
theorem sX6_opened_53 : Rn r 91 53 [l0, l1, l2, l3, l4] [vI x0, vR z1] h Q ↔ Rn r 91 54 [l0, l1, l2, l3, l4] [vI x0, vR z1, vI x0, vR z1] h Q := Rn_nx pg91 rfl rfl
theorem sX6_opened_54 (hk : 40 ≤ hK h a1) (hk2 : hK h a1 ≤ 41) (hx : ¬ (x0 < 0 ∨ hL h a1 ≤ x0.toNatClampNeg)) : Rn r 91 54 [l0, l1, l2, l3, l4] [vI x0, vR (some a1), vI x2, vR z3] h Q ↔ Rn r 91 55 [l0, l1, l2, l3, l4] [vI (hI h a1 x0.toNatClampNeg), vI x2, vR z3] h Q := Rn_nx pg91 rfl ((if_pos ⟨hk, hk2⟩).trans (if_neg hx))
theorem sX6_opened_55 : Rn r 91 55 [l0, l1, l2, l3, l4] [vI x0, vI x1, vR z2] h Q ↔ Rn r 91 56 [l0, l1, l2, l3, l4] [vI 1, vI x0, vI x1, vR z2] h Q := Rn_nx pg91 rfl rfl
theorem sX6_opened_56 : Rn r 91 56 [l0, l1, l2, l3, l4] [vI x0, vI x1, vI x2, vR z3] h Q ↔ Rn r 91 57 [l0, l1, l2, l3, l4] [vI (x1 + x0), vI x2, vR z3] h Q := Rn_nx pg91 rfl rfl
theorem sX6_opened_57 (hk : hK h a2 = 40) (hx : ¬ (x1 < 0 ∨ hL h a2 ≤ x1.toNatClampNeg)) : Rn r 91 57 [l0, l1, l2, l3, l4] [vI x0, vI x1, vR (some a2)] h Q ↔ Rn r 91 58 [l0, l1, l2, l3, l4] [] (putI h a2 x1.toNatClampNeg x0) Q := Rn_nx pg91 rfl ((if_pos hk).trans (if_neg hx))
theorem sX6_opened_58 : Rn r 91 58 [some (vR z), l1, l2, l3, l4] [] h Q ↔ Rn r 91 59 [some (vR z), l1, l2, l3, l4] [vR z] h Q := Rn_nx pg91 rfl rfl
theorem sX6_opened_59 (hk : hK h a0 = 15) : Rn r 91 59 [l0, l1, l2, l3, l4] [vR (some a0)] h Q ↔ Rn r 91 62 [l0, l1, l2, l3, l4] [vR (hR h a0 41)] h Q := Rn_nx pg91 rfl (if_pos ⟨(hk ▸ Nat.le_refl _), (hk ▸ Nat.le_refl _)⟩)
theorem sX6_opened_62 : Rn r 91 62 [l0, l1, l2, l3, some (vI x)] [vR z0] h Q ↔ Rn r 91 64 [l0, l1, l2, l3, some (vI x)] [vI x, vR z0] h Q := Rn_nx pg91 rfl rfl
theorem sX6_opened_64 : Rn r 91 64 [l0, some (vI x), l2, l3, l4] [vI x0, vR z1] h Q ↔ Rn r 91 65 [l0, some (vI x), l2, l3, l4] [vI x, vI x0, vR z1] h Q := Rn_nx pg91 rfl rfl
theorem sX6_opened_65 (hk : hK h a2 = 40) (hx : ¬ (x1 < 0 ∨ hL h a2 ≤ x1.toNatClampNeg)) : Rn r 91 65 [l0, l1, l2, l3, l4] [vI x0, vI x1, vR (some a2)] h Q ↔ Rn r 91 66 [l0, l1, l2, l3, l4] [] (putI h a2 x1.toNatClampNeg x0) Q := Rn_nx pg91 rfl ((if_pos hk).trans (if_neg hx))
theorem sX6_opened_66 : Rn r 91 66 [some (vR z), l1, l2, l3, l4] [] h Q ↔ Rn r 91 67 [some (vR z), l1, l2, l3, l4] [vR z] h Q := Rn_nx pg91 rfl rfl
theorem sX6_opened_67 (hk : hK h a0 = 15) : Rn r 91 67 [l0, l1, l2, l3, l4] [vR (some a0)] h Q ↔ Rn r 91 70 [l0, l1, l2, l3, l4] [vR (hR h a0 42)] h Q := Rn_nx pg91 rfl (if_pos ⟨(hk ▸ Nat.le_refl _), (hk ▸ Nat.le_refl _)⟩)
theorem sX6_opened_70 : Rn r 91 70 [l0, l1, l2, l3, some (vI x)] [vR z0] h Q ↔ Rn r 91 72 [l0, l1, l2, l3, some (vI x)] [vI x, vR z0] h Q := Rn_nx pg91 rfl rfl
theorem sX6_opened_72 : Rn r 91 72 [l0, l1, some (vI x), l3, l4] [vI x0, vR z1] h Q ↔ Rn r 91 73 [l0, l1, some (vI x), l3, l4] [vI x, vI x0, vR z1] h Q := Rn_nx pg91 rfl rfl
theorem sX6_opened_73 (hk : hK h a2 = 40) (hx : ¬ (x1 < 0 ∨ hL h a2 ≤ x1.toNatClampNeg)) : Rn r 91 73 [l0, l1, l2, l3, l4] [vI x0, vI x1, vR (some a2)] h Q ↔ Rn r 91 74 [l0, l1, l2, l3, l4] [] (putI h a2 x1.toNatClampNeg x0) Q := Rn_nx pg91 rfl ((if_pos hk).trans (if_neg hx))
theorem sX6_opened_74 : Rn r 91 74 [some (vR z), l1, l2, l3, l4] [] h Q ↔ Rn r 91 75 [some (vR z), l1, l2, l3, l4] [vR z] h Q := Rn_nx pg91 rfl rfl
theorem sX6_opened_75 (hk : hK h a0 = 15) : Rn r 91 75 [l0, l1, l2, l3, l4] [vR (some a0)] h Q ↔ Rn r 91 78 [l0, l1, l2, l3, l4] [vR (hR h a0 43)] h Q := Rn_nx pg91 rfl (if_pos ⟨(hk ▸ Nat.le_refl _), (hk ▸ Nat.le_refl _)⟩)
theorem sX6_opened_78 : Rn r 91 78 [l0, l1, l2, l3, some (vI x)] [vR z0] h Q ↔ Rn r 91 80 [l0, l1, l2, l3, some (vI x)] [vI x, vR z0] h Q := Rn_nx pg91 rfl rfl
theorem sX6_opened_80 : Rn r 91 80 [l0, l1, l2, some (vI x), l4] [vI x0, vR z1] h Q ↔ Rn r 91 81 [l0, l1, l2, some (vI x), l4] [vI x, vI x0, vR z1] h Q := Rn_nx pg91 rfl rfl
theorem sX6_opened_81 (hk : hK h a2 = 40) (hx : ¬ (x1 < 0 ∨ hL h a2 ≤ x1.toNatClampNeg)) : Rn r 91 81 [l0, l1, l2, l3, l4] [vI x0, vI x1, vR (some a2)] h Q ↔ Rn r 91 82 [l0, l1, l2, l3, l4] [] (putI h a2 x1.toNatClampNeg x0) Q := Rn_nx pg91 rfl ((if_pos hk).trans (if_neg hx))
theorem sX6_opened_82 : Rn r 91 82 [some (vR z), l1, l2, l3, l4] [] h Q ↔ Rn r 91 83 [some (vR z), l1, l2, l3, l4] [vR z] h Q := Rn_nx pg91 rfl rfl
theorem sX6_opened_83 (hk : hK h a0 = 15) : Rn r 91 83 [l0, l1, l2, l3, l4] [vR (some a0)] h Q ↔ Rn r 91 86 [l0, l1, l2, l3, l4] [vR (hR h a0 44)] h Q := Rn_nx pg91 rfl (if_pos ⟨(hk ▸ Nat.le_refl _), (hk ▸ Nat.le_refl _)⟩)
theorem sX6_opened_86 : Rn r 91 86 [l0, l1, l2, l3, some (vI x)] [vR z0] h Q ↔ Rn r 91 88 [l0, l1, l2, l3, some (vI x)] [vI x, vR z0] h Q := Rn_nx pg91 rfl rfl
theorem sX6_opened_88 : Rn r 91 88 [some (vR z), l1, l2, l3, l4] [vI x0, vR z1] h Q ↔ Rn r 91 89 [some (vR z), l1, l2, l3, l4] [vR z, vI x0, vR z1] h Q := Rn_nx pg91 rfl rfl
theorem sX6_opened_89 (hk : hK h a0 = 15) : Rn r 91 89 [l0, l1, l2, l3, l4] [vR (some a0), vI x1, vR z2] h Q ↔ Rn r 91 92 [l0, l1, l2, l3, l4] [vI (hI h a0 49), vI x1, vR z2] h Q := Rn_nx pg91 rfl (if_pos ⟨(hk ▸ Nat.le_refl _), (hk ▸ Nat.le_refl _)⟩)
theorem sX6_opened_92 (hk : hK h a2 = 40) (hx : ¬ (x1 < 0 ∨ hL h a2 ≤ x1.toNatClampNeg)) : Rn r 91 92 [l0, l1, l2, l3, l4] [vI x0, vI x1, vR (some a2)] h Q ↔ Rn r 91 93 [l0, l1, l2, l3, l4] [] (putI h a2 x1.toNatClampNeg x0) Q := Rn_nx pg91 rfl ((if_pos hk).trans (if_neg hx))
theorem sX6_opened_93 : Rn r 91 93 [some (vR z), l1, l2, l3, l4] [] h Q ↔ Rn r 91 94 [some (vR z), l1, l2, l3, l4] [vR z] h Q := Rn_nx pg91 rfl rfl
theorem sX6_opened_94 (hk : hK h a0 = 15) : Rn r 91 94 [l0, l1, l2, l3, l4] [vR (some a0)] h Q ↔ Rn r 91 97 [l0, l1, l2, l3, l4] [vR (hR h a0 45)] h Q := Rn_nx pg91 rfl (if_pos ⟨(hk ▸ Nat.le_refl _), (hk ▸ Nat.le_refl _)⟩)
theorem sX6_opened_97 : Rn r 91 97 [l0, l1, l2, l3, some (vI x)] [vR z0] h Q ↔ Rn r 91 99 [l0, l1, l2, l3, some (vI x)] [vI x, vR z0] h Q := Rn_nx pg91 rfl rfl
theorem sX6_opened_99 : Rn r 91 99 [l0, l1, l2, l3, l4] [vI x0, vR z1] h Q ↔ Rn r 91 100 [l0, l1, l2, l3, l4] [vI (-1), vI x0, vR z1] h Q := Rn_nx pg91 rfl rfl
theorem sX6_opened_100 (hk : hK h a2 = 40) (hx : ¬ (x1 < 0 ∨ hL h a2 ≤ x1.toNatClampNeg)) : Rn r 91 100 [l0, l1, l2, l3, l4] [vI x0, vI x1, vR (some a2)] h Q ↔ Rn r 91 101 [l0, l1, l2, l3, l4] [] (putI h a2 x1.toNatClampNeg x0) Q := Rn_nx pg91 rfl ((if_pos hk).trans (if_neg hx))
theorem sX6_opened_101 : Rn r 91 101 [some (vR z), l1, l2, l3, l4] [] h Q ↔ Rn r 91 102 [some (vR z), l1, l2, l3, l4] [vR z] h Q := Rn_nx pg91 rfl rfl
theorem sX6_opened_102 (hk : hK h a0 = 15) : Rn r 91 102 [l0, l1, l2, l3, l4] [vR (some a0)] h Q ↔ Rn r 91 105 [l0, l1, l2, l3, l4] [vR (hR h a0 46)] h Q := Rn_nx pg91 rfl (if_pos ⟨(hk ▸ Nat.le_refl _), (hk ▸ Nat.le_refl _)⟩)
theorem sX6_opened_105 : Rn r 91 105 [l0, l1, l2, l3, some (vI x)] [vR z0] h Q ↔ Rn r 91 107 [l0, l1, l2, l3, some (vI x)] [vI x, vR z0] h Q := Rn_nx pg91 rfl rfl
theorem sX6_opened_107 : Rn r 91 107 [l0, l1, l2, l3, l4] [vI x0, vR z1] h Q ↔ Rn r 91 108 [l0, l1, l2, l3, l4] [vI (-1), vI x0, vR z1] h Q := Rn_nx pg91 rfl rfl
theorem sX6_opened_108 (hk : hK h a2 = 40) (hx : ¬ (x1 < 0 ∨ hL h a2 ≤ x1.toNatClampNeg)) : Rn r 91 108 [l0, l1, l2, l3, l4] [vI x0, vI x1, vR (some a2)] h Q ↔ Rn r 91 109 [l0, l1, l2, l3, l4] [] (putI h a2 x1.toNatClampNeg x0) Q := Rn_nx pg91 rfl ((if_pos hk).trans (if_neg hx))
theorem sX6_opened_109 : Rn r 91 109 [some (vR z), l1, l2, l3, l4] [] h Q ↔ Rn r 91 110 [some (vR z), l1, l2, l3, l4] [vR z] h Q := Rn_nx pg91 rfl rfl
theorem sX6_opened_110 (hk : hK h a0 = 15) : Rn r 91 110 [l0, l1, l2, l3, l4] [vR (some a0)] h Q ↔ Rn r 91 113 [l0, l1, l2, l3, l4] [vR (hR h a0 56)] h Q := Rn_nx pg91 rfl (if_pos ⟨(hk ▸ Nat.le_refl _), (hk ▸ Nat.le_refl _)⟩)
theorem sX6_opened_113 : Rn r 91 113 [some (vR z), l1, l2, l3, l4] [vR z0] h Q ↔ Rn r 91 114 [some (vR z), l1, l2, l3, l4] [vR z, vR z0] h Q := Rn_nx pg91 rfl rfl
theorem sX6_opened_114 (hk : hK h a0 = 15) : Rn r 91 114 [l0, l1, l2, l3, l4] [vR (some a0), vR z1] h Q ↔ Rn r 91 117 [l0, l1, l2, l3, l4] [vI (hI h a0 55), vR z1] h Q := Rn_nx pg91 rfl (if_pos ⟨(hk ▸ Nat.le_refl _), (hk ▸ Nat.le_refl _)⟩)
theorem sX6_opened_117 : Rn r 91 117 [l0, l1, l2, l3, some (vI x)] [vI x0, vR z1] h Q ↔ Rn r 91 119 [l0, l1, l2, l3, some (vI x)] [vI x, vI x0, vR z1] h Q := Rn_nx pg91 rfl rfl
theorem sX6_opened_119 (hk : hK h a2 = 40) (hx : ¬ (x1 < 0 ∨ hL h a2 ≤ x1.toNatClampNeg)) : Rn r 91 119 [l0, l1, l2, l3, l4] [vI x0, vI x1, vR (some a2)] h Q ↔ Rn r 91 120 [l0, l1, l2, l3, l4] [] (putI h a2 x1.toNatClampNeg x0) Q := Rn_nx pg91 rfl ((if_pos hk).trans (if_neg hx))
theorem sX6_opened_120 : Rn r 91 120 [some (vR z), l1, l2, l3, l4] [] h Q ↔ Rn r 91 121 [some (vR z), l1, l2, l3, l4] [vR z] h Q := Rn_nx pg91 rfl rfl
theorem sX6_opened_121 : Rn r 91 121 [l0, l1, l2, l3, l4] [vR z0] h Q ↔ Rn r 91 122 [l0, l1, l2, l3, l4] [vR z0, vR z0] h Q := Rn_nx pg91 rfl rfl
theorem sX6_opened_122 (hk : hK h a0 = 15) : Rn r 91 122 [l0, l1, l2, l3, l4] [vR (some a0), vR z1] h Q ↔ Rn r 91 125 [l0, l1, l2, l3, l4] [vI (hI h a0 55), vR z1] h Q := Rn_nx pg91 rfl (if_pos ⟨(hk ▸ Nat.le_refl _), (hk ▸ Nat.le_refl _)⟩)
theorem sX6_opened_125 : Rn r 91 125 [l0, l1, l2, l3, l4] [vI x0, vR z1] h Q ↔ Rn r 91 126 [l0, l1, l2, l3, l4] [vI 1, vI x0, vR z1] h Q := Rn_nx pg91 rfl rfl
theorem sX6_opened_126 : Rn r 91 126 [l0, l1, l2, l3, l4] [vI x0, vI x1, vR z2] h Q ↔ Rn r 91 127 [l0, l1, l2, l3, l4] [vI (x1 + x0), vR z2] h Q := Rn_nx pg91 rfl rfl
theorem sX6_opened_127 (hk : hK h a1 = 15) : Rn r 91 127 [l0, l1, l2, l3, l4] [vI x0, vR (some a1)] h Q ↔ Rn r 91 130 [l0, l1, l2, l3, l4] [] (putI h a1 55 x0) Q := Rn_nx pg91 rfl ((if_pos ⟨(hk ▸ Nat.le_refl _), (hk ▸ Nat.le_refl _)⟩).trans rfl)
theorem sX6_opened_130 : Rn r 91 130 [some (vR z), l1, l2, l3, l4] [] h Q ↔ Rn r 91 131 [some (vR z), l1, l2, l3, l4] [vR z] h Q := Rn_nx pg91 rfl rfl
theorem sX6_opened_131 (hk : hK h a0 = 15) : Rn r 91 131 [l0, l1, l2, l3, l4] [vR (some a0)] h Q ↔ Cl r 35 [vR (some a0)] h (Kt r 91 134 [l0, l1, l2, l3, l4] [] Q) := Rn_call pg91 rfl (by simp only [am_exec, am_inv, am_pop, am_lk, hk]; rfl) pg35 rfl rfl rfl
theorem sX6_opened_134 : Rn r 91 134 [l0, l1, l2, l3, some (vI x)] [] h Q ↔ Rn r 91 136 [l0, l1, l2, l3, some (vI x)] [vI x] h Q := Rn_nx pg91 rfl rfl
theorem sX6_opened_136 : Rn r 91 136 [l0, l1, l2, l3, l4] [vI x0] h Q ↔ Q (Sum.inl (some (vI x0))) h := Rn_end pg91 rfl rfl
/-! 92 ThrowRulesModel.areNames(II)Z -/
theorem eX6_areNames : Cl r 92 [vR z0, vI x1, vI x2] h Q ↔ Rn r 92 0 [some (vR z0), some (vI x1), some (vI x2), none] [] h Q := Cl_in pg92 rfl
theorem sX6_areNames_0 : Rn r 92 0 [l0, l1, l2, l3] [] h Q ↔ Rn r 92 1 [l0, l1, l2, l3] [vI 1] h Q := Rn_nx pg92 rfl rfl
theorem sX6_areNames_1 : Rn r 92 1 [l0, l1, l2, l3] [vI x0] h Q ↔ Rn r 92 2 [l0, l1, l2, some (vI x0)] [] h Q := Rn_nx pg92 rfl rfl
theorem sX6_areNames_2 : Rn r 92 2 [l0, l1, l2, some (vI x)] [] h Q ↔ Rn r 92 3 [l0, l1, l2, some (vI x)] [vI x] h Q := Rn_nx pg92 rfl rfl
theorem sX6_areNames_3 : Rn r 92 3 [l0, l1, l2, l3] [vI x0] h Q ↔ if x0 = 0 then Rn r 92 100 [l0, l1, l2, l3] [] h Q else Rn r 92 6 [l0, l1, l2, l3] [] h Q := Rn_if pg92 rfl rfl rfl
theorem sX6_areNames_6 : Rn r 92 6 [some (vR z), l1, l2, l3] [] h Q ↔ Rn r 92 7 [some (vR z), l1, l2, l3] [vR z] h Q := Rn_nx pg92 rfl rfl
theorem sX6_areNames_7 (hk : hK h a0 = 15) : Rn r 92 7 [l0, l1, l2, l3] [vR (some a0)] h Q ↔ Cl r 35 [vR (some a0)] h (Kt r 92 10 [l0, l1, l2, l3] [] Q) := Rn_call pg92 rfl (by simp only [am_exec, am_inv, am_pop, am_lk, hk]; rfl) pg35 rfl rfl rfl
theorem sX6_areNames_10 : Rn r 92 10 [some (vR z), l1, l2, l3] [] h Q ↔ Rn r 92 11 [some (vR z), l1, l2, l3] [vR z] h Q := Rn_nx pg92 rfl rfl
theorem sX6_areNames_11 (hk : hK h a0 = 15) : Rn r 92 11 [l0, l1, l2, l3] [vR (some a0)] h Q ↔ Rn r 92 14 [l0, l1, l2, l3] [vR (hR h a0 30)] h Q := Rn_nx pg92 rfl (if_pos ⟨(hk ▸ Nat.le_refl _), (hk ▸ Nat.le_refl _)⟩)
theorem sX6_areNames_14 : Rn r 92 14 [l0, some (vI x), l2, l3] [vR z0] h Q ↔ Rn r 92 15 [l0, some (vI x), l2, l3] [vI x, vR z0] h Q := Rn_nx pg92 rfl rfl
theorem sX6_areNames_15 (hk : 40 ≤ hK h a1) (hk2 : hK h a1 ≤ 41) (hx : ¬ (x0 < 0 ∨ hL h a1 ≤ x0.toNatClampNeg)) : Rn r 92 15 [l0, l1, l2, l3] [vI x0, vR (some a1)] h Q ↔ Rn r 92 16 [l0, l1, l2, l3] [vI (hI h a1 x0.toNatClampNeg)] h Q := Rn_nx pg92 rfl ((if_pos ⟨hk, hk2⟩).trans (if_neg hx))
theorem sX6_areNames_16 : Rn r 92 16 [l0, l1, l2, l3] [vI x0] h Q ↔ Rn r 92 17 [l0, l1, l2, l3] [vI 4, vI x0] h Q := Rn_nx pg92 rfl rfl
theorem sX6_areNames_17 : Rn r 92 17 [l0, l1, l2, l3] [vI x0, vI x1] h Q ↔ if x1 ≠ x0 then Rn r 92 25 [l0, l1, l2, l3] [] h Q else Rn r 92 20 [l0, l1, l2, l3] [] h Q := Rn_if pg92 rfl rfl rfl
theorem sX6_areNames_20 : Rn r 92 20 [some (vR z), l1, l2, l3] [] h Q ↔ Rn r 92 21 [some (vR z), l1, l2, l3] [vR z] h Q := Rn_nx pg92 rfl rfl
theorem sX6_areNames_21 (hk : hK h a0 = 15) : Rn r 92 21 [l0, l1, l2, l3] [vR (some a0)] h Q ↔ Cl r 39 [vR (some a0)] h (Kt r 92 24 [l0, l1, l2, l3] [] Q) := Rn_call pg92 rfl (by simp only [am_exec, am_inv, am_pop, am_lk, hk]; rfl) pg39 rfl rfl rfl
theorem sX6_areNames_24 (hf : am_fit 4 x0 = true) : Rn r 92 24 [l0, l1, l2, l3] [vI x0] h Q ↔ Q (Sum.inl (some (vI x0))) h := Rn_end pg92 rfl (if_pos hf)
theorem sX6_areNames_25 : Rn r 92 25 [some (vR z), l1, l2, l3] [] h Q ↔ Rn r 92 26 [some (vR z), l1, l2, l3] [vR z] h Q := Rn_nx pg92 rfl rfl
theorem sX6_areNames_26 (hk : hK h a0 = 15) : Rn r 92 26 [l0, l1, l2, l3] [vR (some a0)] h Q ↔ Cl r 88 [vR (some a0)] h (Kt r 92 29 [l0, l1, l2, l3] [] Q) := Rn_call pg92 rfl (by simp only [am_exec, am_inv, am_pop, am_lk, hk]; rfl) pg88 rfl rfl rfl
theorem sX6_areNames_29 : Rn r 92 29 [l0, l1, l2, l3] [vI x0] h Q ↔ if x0 ≠ 0 then Rn r 92 34 [l0, l1, l2, l3] [] h Q else Rn r 92 32 [l0, l1, l2, l3] [] h Q := Rn_if pg92 rfl rfl rfl
theorem sX6_areNames_32 : Rn r 92 32 [l0, l1, l2, l3] [] h Q ↔ Rn r 92 33 [l0, l1, l2, l3] [vI 0] h Q := Rn_nx pg92 rfl rfl
theorem sX6_areNames_33 (hf : am_fit 4 x0 = true) : Rn r 92 33 [l0, l1, l2, l3] [vI x0] h Q ↔ Q (Sum.inl (some (vI x0))) h := Rn_end pg92 rfl (if_pos hf)
theorem sX6_areNames_34 : Rn r 92 34 [some (vR z), l1, l2, l3] [] h Q ↔ Rn r 92 35 [some (vR z), l1, l2, l3] [vR z] h Q := Rn_nx pg92 rfl rfl
theorem sX6_areNames_35 (hk : hK h a0 = 15) : Rn r 92 35 [l0, l1, l2, l3] [vR (some a0)] h Q ↔ Rn r 92 38 [l0, l1, l2, l3] [vR (hR h a0 31)] h Q := Rn_nx pg92 rfl (if_pos ⟨(hk ▸ Nat.le_refl _), (hk ▸ Nat.le_refl _)⟩)
theorem sX6_areNames_38 : Rn r 92 38 [l0, l1, l2, l3] [vR z0] h Q ↔ Rn r 92 39 [l0, l1, l2, l3] [vI 4, vR z0] h Q := Rn_nx pg92 rfl rfl
theorem sX6_areNames_39 : Rn r 92 39 [l0, some (vI x), l2, l3] [vI x0, vR z1] h Q ↔ Rn r 92 40 [l0, some (vI x), l2, l3] [vI x, vI x0, vR z1] h Q := Rn_nx pg92 rfl rfl
theorem sX6_areNames_40 : Rn r 92 40 [l0, l1, l2, l3] [vI x0, vI x1, vR z2] h Q ↔ Rn r 92 41 [l0, l1, l2, l3] [vI (x1 * x0), vR z2] h Q := Rn_nx pg92 rfl rfl
theorem sX6_areNames_41 : Rn r 92 41 [some (vR z), l1, l2, l3] [vI x0, vR z1] h Q ↔ Rn r 92 42 [some (vR z), l1, l2, l3] [vR z, vI x0, vR z1] h Q := Rn_nx pg92 rfl rfl
theorem sX6_areNames_42 (hk : hK h a0 = 15) : Rn r 92 42 [l0, l1, l2, l3] [vR (some a0), vI x1, vR z2] h Q ↔ Rn r 92 45 [l0, l1, l2, l3] [vR (hR h a0 30), vI x1, vR z2] h Q := Rn_nx pg92 rfl (if_pos ⟨(hk ▸ Nat.le_refl _), (hk ▸ Nat.le_refl _)⟩)
theorem sX6_areNames_45 : Rn r 92 45 [l0, some (vI x), l2, l3] [vR z0, vI x1, vR z2] h Q ↔ Rn r 92 46 [l0, some (vI x), l2, l3] [vI x, vR z0, vI x1, vR z2] h Q := Rn_nx pg92 rfl rfl
theorem sX6_areNames_46 (hk : 40 ≤ hK h a1) (hk2 : hK h a1 ≤ 41) (hx : ¬ (x0 < 0 ∨ hL h a1 ≤ x0.toNatClampNeg)) : Rn r 92 46 [l0, l1, l2, l3] [vI x0, vR (some a1), vI x2, vR z3] h Q ↔ Rn r 92 47 [l0, l1, l2, l3] [vI (hI h a1 x0.toNatClampNeg), vI x2, vR z3] h Q := Rn_nx pg92 rfl ((if_pos ⟨hk, hk2⟩).trans (if_neg hx))
theorem sX6_areNames_47 : Rn r 92 47 [l0, l1, l2, l3] [vI x0, vI x1, vR z2] h Q ↔ Rn r 92 48 [l0, l1, l2, l3] [vI (x1 + x0), vR z2] h Q := Rn_nx pg92 rfl rfl
theorem sX6_areNames_48 : Rn r 92 48 [some (vR z), l1, l2, l3] [vI x0, vR z1] h Q ↔ Rn r 92 49 [some (vR z), l1, l2, l3] [vR z, vI x0, vR z1] h Q := Rn_nx pg92 rfl rfl
theorem sX6_areNames_49 (hk : hK h a0 = 15) : Rn r 92 49 [l0, l1, l2, l3] [vR (some a0), vI x1, vR z2] h Q ↔ Rn r 92 52 [l0, l1, l2, l3] [vL (hJ h a0 53), vI x1, vR z2] h Q := Rn_nx pg92 rfl (if_pos ⟨(hk ▸ Nat.le_refl _), (hk ▸ Nat.le_refl _)⟩)
theorem sX6_areNames_52 (hk : hK h a2 = 42) (hx : ¬ (x1 < 0 ∨ hL h a2 ≤ x1.toNatClampNeg)) : Rn r 92 52 [l0, l1, l2, l3] [vL y0, vI x1, vR (some a2)] h Q ↔ Rn r 92 53 [l0, l1, l2, l3] [] (putJ h a2 x1.toNatClampNeg y0) Q := Rn_nx pg92 rfl ((if_pos hk).trans (if_neg hx))
theorem sX6_areNames_53 : Rn r 92 53 [some (vR z), l1, l2, l3] [] h Q ↔ Rn r 92 54 [some (vR z), l1, l2, l3] [vR z] h Q := Rn_nx pg92 rfl rfl
theorem sX6_areNames_54 (hk : hK h a0 = 15) : Rn r 92 54 [l0, l1, l2, l3] [vR (some a0)] h Q ↔ Rn r 92 57 [l0, l1, l2, l3] [vR (hR h a0 32)] h Q := Rn_nx pg92 rfl (if_pos ⟨(hk ▸ Nat.le_refl _), (hk ▸ Nat.le_refl _)⟩)
theorem sX6_areNames_57 : Rn r 92 57 [l0, l1, l2, l3] [vR z0] h Q ↔ Rn r 92 58 [l0, l1, l2, l3] [vI 4, vR z0] h Q := Rn_nx pg92 rfl rfl
theorem sX6_areNames_58 : Rn r 92 58 [l0, some (vI x), l2, l3] [vI x0, vR z1] h Q ↔ Rn r 92 59 [l0, some (vI x), l2, l3] [vI x, vI x0, vR z1] h Q := Rn_nx pg92 rfl rfl
theorem sX6_areNames_59 : Rn r 92 59 [l0, l1, l2, l3] [vI x0, vI x1, vR z2] h Q ↔ Rn r 92 60 [l0, l1, l2, l3] [vI (x1 * x0), vR z2] h Q := Rn_nx pg92 rfl rfl
theorem sX6_areNames_60 : Rn r 92 60 [some (vR z), l1, l2, l3] [vI x0, vR z1] h Q ↔ Rn r 92 61 [some (vR z), l1, l2, l3] [vR z, vI x0, vR z1] h Q := Rn_nx pg92 rfl rfl
theorem sX6_areNames_61 (hk : hK h a0 = 15) : Rn r 92 61 [l0, l1, l2, l3] [vR (some a0), vI x1, vR z2] h Q ↔ Rn r 92 64 [l0, l1, l2, l3] [vR (hR h a0 30), vI x1, vR z2] h Q := Rn_nx pg92 rfl (if_pos ⟨(hk ▸ Nat.le_refl _), (hk ▸ Nat.le_refl _)⟩)
theorem sX6_areNames_64 : Rn r 92 64 [l0, some (vI x), l2, l3] [vR z0, vI x1, vR z2] h Q ↔ Rn r 92 65 [l0, some (vI x), l2, l3] [vI x, vR z0, vI x1, vR z2] h Q := Rn_nx pg92 rfl rfl
theorem sX6_areNames_65 (hk : 40 ≤ hK h a1) (hk2 : hK h a1 ≤ 41) (hx : ¬ (x0 < 0 ∨ hL h a1 ≤ x0.toNatClampNeg)) : Rn r 92 65 [l0, l1, l2, l3] [vI x0, vR (some a1), vI x2, vR z3] h Q ↔ Rn r 92 66 [l0, l1, l2, l3] [vI (hI h a1 x0.toNatClampNeg), vI x2, vR z3] h Q := Rn_nx pg92 rfl ((if_pos ⟨hk, hk2⟩).trans (if_neg hx))
theorem sX6_areNames_66 : Rn r 92 66 [l0, l1, l2, l3] [vI x0, vI x1, vR z2] h Q ↔ Rn r 92 67 [l0, l1, l2, l3] [vI (x1 + x0), vR z2] h Q := Rn_nx pg92 rfl rfl
theorem sX6_areNames_67 : Rn r 92 67 [some (vR z), l1, l2, l3] [vI x0, vR z1] h Q ↔ Rn r 92 68 [some (vR z), l1, l2, l3] [vR z, vI x0, vR z1] h Q := Rn_nx pg92 rfl rfl
theorem sX6_areNames_68 (hk : hK h a0 = 15) : Rn r 92 68 [l0, l1, l2, l3] [vR (some a0), vI x1, vR z2] h Q ↔ Rn r 92 71 [l0, l1, l2, l3] [vI (hI h a0 54), vI x1, vR z2] h Q := Rn_nx pg92 rfl (if_pos ⟨(hk ▸ Nat.le_refl _), (hk ▸ Nat.le_refl _)⟩)
theorem sX6_areNames_71 (hk : hK h a2 = 40) (hx : ¬ (x1 < 0 ∨ hL h a2 ≤ x1.toNatClampNeg)) : Rn r 92 71 [l0, l1, l2, l3] [vI x0, vI x1, vR (some a2)] h Q ↔ Rn r 92 72 [l0, l1, l2, l3] [] (putI h a2 x1.toNatClampNeg x0) Q := Rn_nx pg92 rfl ((if_pos hk).trans (if_neg hx))
theorem sX6_areNames_72 : Rn r 92 72 [some (vR z), l1, l2, l3] [] h Q ↔ Rn r 92 73 [some (vR z), l1, l2, l3] [vR z] h Q := Rn_nx pg92 rfl rfl
theorem sX6_areNames_73 (hk : hK h a0 = 15) : Rn r 92 73 [l0, l1, l2, l3] [vR (some a0)] h Q ↔ Rn r 92 76 [l0, l1, l2, l3] [vR (hR h a0 30)] h Q := Rn_nx pg92 rfl (if_pos ⟨(hk ▸ Nat.le_refl _), (hk ▸ Nat.le_refl _)⟩)
theorem sX6_areNames_76 : Rn r 92 76 [l0, some (vI x), l2, l3] [vR z0] h Q ↔ Rn r 92 77 [l0, some (vI x), l2, l3] [vI x, vR z0] h Q := Rn_nx pg92 rfl rfl
theorem sX6_areNames_77 : Rn r 92 77 [l0, l1, l2, l3] [vI x0, vR z1] h Q ↔ Rn r 92 78 [l0, l1, l2, l3] [vI x0, vR z1, vI x0, vR z1] h Q := Rn_nx pg92 rfl rfl
theorem sX6_areNames_78 (hk : 40 ≤ hK h a1) (hk2 : hK h a1 ≤ 41) (hx : ¬ (x0 < 0 ∨ hL h a1 ≤ x0.toNatClampNeg)) : Rn r 92 78 [l0, l1, l2, l3] [vI x0, vR (some a1), vI x2, vR z3] h Q ↔ Rn r 92 79 [l0, l1, l2, l3] [vI (hI h a1 x0.toNatClampNeg), vI x2, vR z3] h Q := Rn_nx pg92 rfl ((if_pos ⟨hk, hk2⟩).trans (if_neg hx))
theorem sX6_areNames_79 : Rn r 92 79 [l0, l1, l2, l3] [vI x0, vI x1, vR z2] h Q ↔ Rn r 92 80 [l0, l1, l2, l3] [vI 1, vI x0, vI x1, vR z2] h Q := Rn_nx pg92 rfl rfl
theorem sX6_areNames_80 : Rn r 92 80 [l0, l1, l2, l3] [vI x0, vI x1, vI x2, vR z3] h Q ↔ Rn r 92 81 [l0, l1, l2, l3] [vI (x1 + x0), vI x2, vR z3] h Q := Rn_nx pg92 rfl rfl
theorem sX6_areNames_81 (hk : hK h a2 = 40) (hx : ¬ (x1 < 0 ∨ hL h a2 ≤ x1.toNatClampNeg)) : Rn r 92 81 [l0, l1, l2, l3] [vI x0, vI x1, vR (some a2)] h Q ↔ Rn r 92 82 [l0, l1, l2, l3] [] (putI h a2 x1.toNatClampNeg x0) Q := Rn_nx pg92 rfl ((if_pos hk).trans (if_neg hx))
theorem sX6_areNames_82 : Rn r 92 82 [some (vR z), l1, l2, l3] [] h Q ↔ Rn r 92 83 [some (vR z), l1, l2, l3] [vR z] h Q := Rn_nx pg92 rfl rfl
theorem sX6_areNames_83 (hk : hK h a0 = 15) : Rn r 92 83 [l0, l1, l2, l3] [vR (some a0)] h Q ↔ Rn r 92 86 [l0, l1, l2, l3] [vI (hI h a0 51)] h Q := Rn_nx pg92 rfl (if_pos ⟨(hk ▸ Nat.le_refl _), (hk ▸ Nat.le_refl _)⟩)
theorem sX6_areNames_86 : Rn r 92 86 [l0, l1, l2, l3] [vI x0] h Q ↔ Rn r 92 88 [l0, l1, l2, l3] [vI 44, vI x0] h Q := Rn_nx pg92 rfl rfl
theorem sX6_areNames_88 : Rn r 92 88 [l0, l1, l2, l3] [vI x0, vI x1] h Q ↔ if x1 ≠ x0 then Rn r 92 95 [l0, l1, l2, l3] [] h Q else Rn r 92 91 [l0, l1, l2, l3] [] h Q := Rn_if pg92 rfl rfl rfl
theorem sX6_areNames_91 : Rn r 92 91 [l0, l1, l2, l3] [] h Q ↔ Rn r 92 92 [l0, l1, l2, l3] [vI 1] h Q := Rn_nx pg92 rfl rfl
theorem sX6_areNames_92 : Rn r 92 92 [l0, l1, l2, l3] [vI x0] h Q ↔ Rn r 92 96 [l0, l1, l2, l3] [vI x0] h Q := Rn_nx pg92 rfl rfl
theorem sX6_areNames_95 : Rn r 92 95 [l0, l1, l2, l3] [] h Q ↔ Rn r 92 96 [l0, l1, l2, l3] [vI 0] h Q := Rn_nx pg92 rfl rfl
theorem sX6_areNames_96 : Rn r 92 96 [l0, l1, l2, l3] [vI x0] h Q ↔ Rn r 92 97 [l0, l1, l2, some (vI x0)] [] h Q := Rn_nx pg92 rfl rfl
theorem sX6_areNames_97 : Rn r 92 97 [l0, l1, l2, l3] [] h Q ↔ Rn r 92 2 [l0, l1, l2, l3] [] h Q := Rn_nx pg92 rfl rfl
theorem sX6_areNames_100 : Rn r 92 100 [some (vR z), l1, l2, l3] [] h Q ↔ Rn r 92 101 [some (vR z), l1, l2, l3] [vR z] h Q := Rn_nx pg92 rfl rfl
theorem sX6_areNames_101 : Rn r 92 101 [l0, l1, some (vI x), l3] [vR z0] h Q ↔ Rn r 92 102 [l0, l1, some (vI x), l3] [vI x, vR z0] h Q := Rn_nx pg92 rfl rfl
theorem sX6_areNames_102 (hk : hK h a1 = 15) : Rn r 92 102 [l0, l1, l2, l3] [vI x0, vR (some a1)] h Q ↔ Cl r 90 [vR (some a1), vI x0] h (Kt r 92 105 [l0, l1, l2, l3] [] Q) := Rn_call pg92 rfl (by simp only [am_exec, am_inv, am_pop, am_lk, hk]; rfl) pg90 rfl rfl rfl
theorem sX6_areNames_105 (hf : am_fit 4 x0 = true) : Rn r 92 105 [l0, l1, l2, l3] [vI x0] h Q ↔ Q (Sum.inl (some (vI x0))) h := Rn_end pg92 rfl (if_pos hf)
/-! 93 ThrowRulesModel.behind(IZ)V -/
theorem eX6_behind : Cl r 93 [vR z0, vI x1, vI x2] h Q ↔ Rn r 93 0 [some (vR z0), some (vI x1), some (vI x2)] [] h Q := Cl_in pg93 rfl
theorem sX6_behind_0 : Rn r 93 0 [some (vR z), l1, l2] [] h Q ↔ Rn r 93 1 [some (vR z), l1, l2] [vR z] h Q := Rn_nx pg93 rfl rfl
theorem sX6_behind_1 : Rn r 93 1 [l0, l1, l2] [vR z0] h Q ↔ Rn r 93 4 [l0, l1, l2] [vL 426836779880, vR z0] h Q := Rn_nx pg93 rfl rfl
theorem sX6_behind_4 (hk : hK h a1 = 15) : Rn r 93 4 [l0, l1, l2] [vL y0, vR (some a1)] h Q ↔ Cl r 36 [vR (some a1), vL y0] h (Kt r 93 7 [l0, l1, l2] [] Q) := Rn_call pg93 rfl (by simp only [am_exec, am_inv, am_pop, am_lk, hk]; rfl) pg36 rfl rfl rfl
theorem sX6_behind_7 : Rn r 93 7 [l0, l1, l2] [vI x0] h Q ↔ if x0 = 0 then Rn r 93 18 [l0, l1, l2] [] h Q else Rn r 93 10 [l0, l1, l2] [] h Q := Rn_if pg93 rfl rfl rfl
theorem sX6_behind_10 : Rn r 93 10 [some (vR z), l1, l2] [] h Q ↔ Rn r 93 11 [some (vR z), l1, l2] [vR z] h Q := Rn_nx pg93 rfl rfl
theorem sX6_behind_11 : Rn r 93 11 [l0, some (vI x), l2] [vR z0] h Q ↔ Rn r 93 12 [l0, some (vI x), l2] [vI x, vR z0] h Q := Rn_nx pg93 rfl rfl
theorem sX6_behind_12 (hk : hK h a1 = 15) : Rn r 93 12 [l0, l1, l2] [vI x0, vR (some a1)] h Q ↔ Cl r 140 [vR (some a1), vI x0] h (Kt r 93 15 [l0, l1, l2] [] Q) := Rn_call pg93 rfl (by simp only [am_exec, am_inv, am_pop, am_lk, hk]; rfl) pg140 rfl rfl rfl
theorem sX6_behind_15 : Rn r 93 15 [l0, l1, l2] [] h Q ↔ Rn r 93 67 [l0, l1, l2] [] h Q := Rn_nx pg93 rfl rfl
theorem sX6_behind_18 : Rn r 93 18 [some (vR z), l1, l2] [] h Q ↔ Rn r 93 19 [some (vR z), l1, l2] [vR z] h Q := Rn_nx pg93 rfl rfl
theorem sX6_behind_19 : Rn r 93 19 [l0, l1, l2] [vR z0] h Q ↔ Rn r 93 22 [l0, l1, l2] [vL 28826370426301561, vR z0] h Q := Rn_nx pg93 rfl rfl
theorem sX6_behind_22 (hk : hK h a1 = 15) : Rn r 93 22 [l0, l1, l2] [vL y0, vR (some a1)] h Q ↔ Cl r 36 [vR (some a1), vL y0] h (Kt r 93 25 [l0, l1, l2] [] Q) := Rn_call pg93 rfl (by simp only [am_exec, am_inv, am_pop, am_lk, hk]; rfl) pg36 rfl rfl rfl
theorem sX6_behind_25 : Rn r 93 25 [l0, l1, l2] [vI x0] h Q ↔ if x0 = 0 then Rn r 93 49 [l0, l1, l2] [] h Q else Rn r 93 28 [l0, l1, l2] [] h Q := Rn_if pg93 rfl rfl rfl
theorem sX6_behind_28 : Rn r 93 28 [some (vR z), l1, l2] [] h Q ↔ Rn r 93 29 [some (vR z), l1, l2] [vR z] h Q := Rn_nx pg93 rfl rfl
theorem sX6_behind_29 (hk : hK h a0 = 15) : Rn r 93 29 [l0, l1, l2] [vR (some a0)] h Q ↔ Cl r 35 [vR (some a0)] h (Kt r 93 32 [l0, l1, l2] [] Q) := Rn_call pg93 rfl (by simp only [am_exec, am_inv, am_pop, am_lk, hk]; rfl) pg35 rfl rfl rfl
theorem sX6_behind_32 : Rn r 93 32 [some (vR z), l1, l2] [] h Q ↔ Rn r 93 33 [some (vR z), l1, l2] [vR z] h Q := Rn_nx pg93 rfl rfl
theorem sX6_behind_33 (hk : hK h a0 = 15) : Rn r 93 33 [l0, l1, l2] [vR (some a0)] h Q ↔ Rn r 93 36 [l0, l1, l2] [vR (hR h a0 29)] h Q := Rn_nx pg93 rfl (if_pos ⟨(hk ▸ Nat.le_refl _), (hk ▸ Nat.le_refl _)⟩)
theorem sX6_behind_36 : Rn r 93 36 [l0, some (vI x), l2] [vR z0] h Q ↔ Rn r 93 37 [l0, some (vI x), l2] [vI x, vR z0] h Q := Rn_nx pg93 rfl rfl
theorem sX6_behind_37 : Rn r 93 37 [some (vR z), l1, l2] [vI x0, vR z1] h Q ↔ Rn r 93 38 [some (vR z), l1, l2] [vR z, vI x0, vR z1] h Q := Rn_nx pg93 rfl rfl
theorem sX6_behind_38 : Rn r 93 38 [l0, l1, l2] [vR z0, vI x1, vR z2] h Q ↔ Rn r 93 40 [l0, l1, l2] [vI 7, vR z0, vI x1, vR z2] h Q := Rn_nx pg93 rfl rfl
theorem sX6_behind_40 : Rn r 93 40 [l0, some (vI x), l2] [vI x0, vR z1, vI x2, vR z3] h Q ↔ Rn r 93 41 [l0, some (vI x), l2] [vI x, vI x0, vR z1, vI x2, vR z3] h Q := Rn_nx pg93 rfl rfl
theorem sX6_behind_41 : Rn r 93 41 [l0, l1, l2] [vI x0, vI x1, vR z2, vI x3, vR z4] h Q ↔ Rn r 93 42 [l0, l1, l2] [vI 0, vI x0, vI x1, vR z2, vI x3, vR z4] h Q := Rn_nx pg93 rfl rfl
theorem sX6_behind_42 (hk : hK h a3 = 15) : Rn r 93 42 [l0, l1, l2] [vI x0, vI x1, vI x2, vR (some a3), vI x4, vR z5] h Q ↔ Cl r 91 [vR (some a3), vI x2, vI x1, vI x0] h (Kt r 93 45 [l0, l1, l2] [vI x4, vR z5] Q) := Rn_call pg93 rfl (by simp only [am_exec, am_inv, am_pop, am_lk, hk]; rfl) pg91 rfl rfl rfl
theorem sX6_behind_45 (hk : hK h a2 = 40) (hx : ¬ (x1 < 0 ∨ hL h a2 ≤ x1.toNatClampNeg)) : Rn r 93 45 [l0, l1, l2] [vI x0, vI x1, vR (some a2)] h Q ↔ Rn r 93 46 [l0, l1, l2] [] (putI h a2 x1.toNatClampNeg x0) Q := Rn_nx pg93 rfl ((if_pos hk).trans (if_neg hx))
theorem sX6_behind_46 : Rn r 93 46 [l0, l1, l2] [] h Q ↔ Rn r 93 67 [l0, l1, l2] [] h Q := Rn_nx pg93 rfl rfl
theorem sX6_behind_49 : Rn r 93 49 [l0, l1, some (vI x)] [] h Q ↔ Rn r 93 50 [l0, l1, some (vI x)] [vI x] h Q := Rn_nx pg93 rfl rfl
theorem sX6_behind_50 : Rn r 93 50 [l0, l1, l2] [vI x0] h Q ↔ if x0 = 0 then Rn r 93 67 [l0, l1, l2] [] h Q else Rn r 93 53 [l0, l1, l2] [] h Q := Rn_if pg93 rfl rfl rfl
theorem sX6_behind_53 : Rn r 93 53 [some (vR z), l1, l2] [] h Q ↔ Rn r 93 54 [some (vR z), l1, l2] [vR z] h Q := Rn_nx pg93 rfl rfl
theorem sX6_behind_54 (hk : hK h a0 = 15) : Rn r 93 54 [l0, l1, l2] [vR (some a0)] h Q ↔ Rn r 93 57 [l0, l1, l2] [vR (hR h a0 30)] h Q := Rn_nx pg93 rfl (if_pos ⟨(hk ▸ Nat.le_refl _), (hk ▸ Nat.le_refl _)⟩)
theorem sX6_behind_57 : Rn r 93 57 [l0, some (vI x), l2] [vR z0] h Q ↔ Rn r 93 58 [l0, some (vI x), l2] [vI x, vR z0] h Q := Rn_nx pg93 rfl rfl
theorem sX6_behind_58 (hk : 40 ≤ hK h a1) (hk2 : hK h a1 ≤ 41) (hx : ¬ (x0 < 0 ∨ hL h a1 ≤ x0.toNatClampNeg)) : Rn r 93 58 [l0, l1, l2] [vI x0, vR (some a1)] h Q ↔ Rn r 93 59 [l0, l1, l2] [vI (hI h a1 x0.toNatClampNeg)] h Q := Rn_nx pg93 rfl ((if_pos ⟨hk, hk2⟩).trans (if_neg hx))
theorem sX6_behind_59 : Rn r 93 59 [l0, l1, l2] [vI x0] h Q ↔ if x0 ≠ 0 then Rn r 93 67 [l0, l1, l2] [] h Q else Rn r 93 62 [l0, l1, l2] [] h Q := Rn_if pg93 rfl rfl rfl
theorem sX6_behind_62 : Rn r 93 62 [some (vR z), l1, l2] [] h Q ↔ Rn r 93 63 [some (vR z), l1, l2] [vR z] h Q := Rn_nx pg93 rfl rfl
theorem sX6_behind_63 (hk : hK h a0 = 15) : Rn r 93 63 [l0, l1, l2] [vR (some a0)] h Q ↔ Cl r 39 [vR (some a0)] h (Kt r 93 66 [l0, l1, l2] [] Q) := Rn_call pg93 rfl (by simp only [am_exec, am_inv, am_pop, am_lk, hk]; rfl) pg39 rfl rfl rfl
theorem sX6_behind_66 : Rn r 93 66 [l0, l1, l2] [vI x0] h Q ↔ Rn r 93 67 [l0, l1, l2] [] h Q := Rn_nx pg93 rfl rfl
theorem sX6_behind_67 : Rn r 93 67 [l0, l1, l2] [] h Q ↔ Q (Sum.inl none) h := Rn_end pg93 rfl rfl
/-! 94 ThrowRulesModel.leaves(I)Z -/
theorem eX6_leaves : Cl r 94 [vR z0, vI x1] h Q ↔ Rn r 94 0 [some (vR z0), some (vI x1), none, none, none] [] h Q := Cl_in pg94 rfl
theorem sX6_leaves_0 : Rn r 94 0 [l0, l1, l2, l3, l4] [] h Q ↔ Rn r 94 1 [l0, l1, l2, l3, l4] [vI 0] h Q := Rn_nx pg94 rfl rfl
theorem sX6_leaves_1 : Rn r 94 1 [l0, l1, l2, l3, l4] [vI x0] h Q ↔ Rn r 94 2 [l0, l1, some (vI x0), l3, l4] [] h Q := Rn_nx pg94 rfl rfl
theorem sX6_leaves_2 : Rn r 94 2 [some (vR z), l1, l2, l3, l4] [] h Q ↔ Rn r 94 3 [some (vR z), l1, l2, l3, l4] [vR z] h Q := Rn_nx pg94 rfl rfl
theorem sX6_leaves_3 (hk : hK h a0 = 15) : Rn r 94 3 [l0, l1, l2, l3, l4] [vR (some a0)] h Q ↔ Rn r 94 6 [l0, l1, l2, l3, l4] [vR (hR h a0 20)] h Q := Rn_nx pg94 rfl (if_pos ⟨(hk ▸ Nat.le_refl _), (hk ▸ Nat.le_refl _)⟩)
theorem sX6_leaves_6 : Rn r 94 6 [l0, some (vI x), l2, l3, l4] [vR z0] h Q ↔ Rn r 94 7 [l0, some (vI x), l2, l3, l4] [vI x, vR z0] h Q := Rn_nx pg94 rfl rfl
theorem sX6_leaves_7 (hk : 40 ≤ hK h a1) (hk2 : hK h a1 ≤ 41) (hx : ¬ (x0 < 0 ∨ hL h a1 ≤ x0.toNatClampNeg)) : Rn r 94 7 [l0, l1, l2, l3, l4] [vI x0, vR (some a1)] h Q ↔ Rn r 94 8 [l0, l1, l2, l3, l4] [vI (hI h a1 x0.toNatClampNeg)] h Q := Rn_nx pg94 rfl ((if_pos ⟨hk, hk2⟩).trans (if_neg hx))
theorem sX6_leaves_8 : Rn r 94 8 [l0, l1, l2, l3, l4] [vI x0] h Q ↔ Rn r 94 (if x0 = 2 then 64 else if x0 = 3 then 284 else if x0 = 4 then 66 else if x0 = 5 then 284 else if x0 = 6 then 108 else if x0 = 7 then 64 else if x0 = 8 then 64 else if x0 = 9 then 184 else if x0 = 10 then 284 else if x0 = 11 then 273 else 284) [l0, l1, l2, l3, l4] [] h Q := Rn_nx pg94 rfl rfl
theorem sX6_leaves_64 : Rn r 94 64 [l0, l1, l2, l3, l4] [] h Q ↔ Rn r 94 65 [l0, l1, l2, l3, l4] [vI 0] h Q := Rn_nx pg94 rfl rfl
theorem sX6_leaves_65 (hf : am_fit 4 x0 = true) : Rn r 94 65 [l0, l1, l2, l3, l4] [vI x0] h Q ↔ Q (Sum.inl (some (vI x0))) h := Rn_end pg94 rfl (if_pos hf)
theorem sX6_leaves_66 : Rn r 94 66 [some (vR z), l1, l2, l3, l4] [] h Q ↔ Rn r 94 67 [some (vR z), l1, l2, l3, l4] [vR z] h Q := Rn_nx pg94 rfl rfl
theorem sX6_leaves_67 (hk : hK h a0 = 15) : Rn r 94 67 [l0, l1, l2, l3, l4] [vR (some a0)] h Q ↔ Rn r 94 70 [l0, l1, l2, l3, l4] [vR (hR h a0 28)] h Q := Rn_nx pg94 rfl (if_pos ⟨(hk ▸ Nat.le_refl _), (hk ▸ Nat.le_refl _)⟩)
theorem sX6_leaves_70 : Rn r 94 70 [l0, some (vI x), l2, l3, l4] [vR z0] h Q ↔ Rn r 94 71 [l0, some (vI x), l2, l3, l4] [vI x, vR z0] h Q := Rn_nx pg94 rfl rfl
theorem sX6_leaves_71 (hk : 40 ≤ hK h a1) (hk2 : hK h a1 ≤ 41) (hx : ¬ (x0 < 0 ∨ hL h a1 ≤ x0.toNatClampNeg)) : Rn r 94 71 [l0, l1, l2, l3, l4] [vI x0, vR (some a1)] h Q ↔ Rn r 94 72 [l0, l1, l2, l3, l4] [vI (hI h a1 x0.toNatClampNeg)] h Q := Rn_nx pg94 rfl ((if_pos ⟨hk, hk2⟩).trans (if_neg hx))
theorem sX6_leaves_72 : Rn r 94 72 [l0, l1, l2, l3, l4] [vI x0] h Q ↔ Rn r 94 73 [l0, l1, l2, l3, l4] [vI (-1), vI x0] h Q := Rn_nx pg94 rfl rfl
theorem sX6_leaves_73 : Rn r 94 73 [l0, l1, l2, l3, l4] [vI x0, vI x1] h Q ↔ if x1 = x0 then Rn r 94 102 [l0, l1, l2, l3, l4] [] h Q else Rn r 94 76 [l0, l1, l2, l3, l4] [] h Q := Rn_if pg94 rfl rfl rfl
theorem sX6_leaves_76 : Rn r 94 76 [some (vR z), l1, l2, l3, l4] [] h Q ↔ Rn r 94 77 [some (vR z), l1, l2, l3, l4] [vR z] h Q := Rn_nx pg94 rfl rfl
theorem sX6_leaves_77 : Rn r 94 77 [some (vR z), l1, l2, l3, l4] [vR z0] h Q ↔ Rn r 94 78 [some (vR z), l1, l2, l3, l4] [vR z, vR z0] h Q := Rn_nx pg94 rfl rfl
theorem sX6_leaves_78 (hk : hK h a0 = 15) : Rn r 94 78 [l0, l1, l2, l3, l4] [vR (some a0), vR z1] h Q ↔ Rn r 94 81 [l0, l1, l2, l3, l4] [vR (hR h a0 27), vR z1] h Q := Rn_nx pg94 rfl (if_pos ⟨(hk ▸ Nat.le_refl _), (hk ▸ Nat.le_refl _)⟩)
theorem sX6_leaves_81 : Rn r 94 81 [l0, some (vI x), l2, l3, l4] [vR z0, vR z1] h Q ↔ Rn r 94 82 [l0, some (vI x), l2, l3, l4] [vI x, vR z0, vR z1] h Q := Rn_nx pg94 rfl rfl
theorem sX6_leaves_82 (hk : 40 ≤ hK h a1) (hk2 : hK h a1 ≤ 41) (hx : ¬ (x0 < 0 ∨ hL h a1 ≤ x0.toNatClampNeg)) : Rn r 94 82 [l0, l1, l2, l3, l4] [vI x0, vR (some a1), vR z2] h Q ↔ Rn r 94 83 [l0, l1, l2, l3, l4] [vI (hI h a1 x0.toNatClampNeg), vR z2] h Q := Rn_nx pg94 rfl ((if_pos ⟨hk, hk2⟩).trans (if_neg hx))
theorem sX6_leaves_83 (hk : hK h a1 = 15) : Rn r 94 83 [l0, l1, l2, l3, l4] [vI x0, vR (some a1)] h Q ↔ Cl r 52 [vR (some a1), vI x0] h (Kt r 94 86 [l0, l1, l2, l3, l4] [] Q) := Rn_call pg94 rfl (by simp only [am_exec, am_inv, am_pop, am_lk, hk]; rfl) pg52 rfl rfl rfl
theorem sX6_leaves_86 : Rn r 94 86 [l0, l1, l2, l3, l4] [vI x0] h Q ↔ if x0 ≠ 0 then Rn r 94 102 [l0, l1, l2, l3, l4] [] h Q else Rn r 94 89 [l0, l1, l2, l3, l4] [] h Q := Rn_if pg94 rfl rfl rfl
theorem sX6_leaves_89 : Rn r 94 89 [some (vR z), l1, l2, l3, l4] [] h Q ↔ Rn r 94 90 [some (vR z), l1, l2, l3, l4] [vR z] h Q := Rn_nx pg94 rfl rfl
theorem sX6_leaves_90 : Rn r 94 90 [some (vR z), l1, l2, l3, l4] [vR z0] h Q ↔ Rn r 94 91 [some (vR z), l1, l2, l3, l4] [vR z, vR z0] h Q := Rn_nx pg94 rfl rfl
theorem sX6_leaves_91 (hk : hK h a0 = 15) : Rn r 94 91 [l0, l1, l2, l3, l4] [vR (some a0), vR z1] h Q ↔ Rn r 94 94 [l0, l1, l2, l3, l4] [vR (hR h a0 28), vR z1] h Q := Rn_nx pg94 rfl (if_pos ⟨(hk ▸ Nat.le_refl _), (hk ▸ Nat.le_refl _)⟩)
theorem sX6_leaves_94 : Rn r 94 94 [l0, some (vI x), l2, l3, l4] [vR z0, vR z1] h Q ↔ Rn r 94 95 [l0, some (vI x), l2, l3, l4] [vI x, vR z0, vR z1] h Q := Rn_nx pg94 rfl rfl
theorem sX6_leaves_95 (hk : 40 ≤ hK h a1) (hk2 : hK h a1 ≤ 41) (hx : ¬ (x0 < 0 ∨ hL h a1 ≤ x0.toNatClampNeg)) : Rn r 94 95 [l0, l1, l2, l3, l4] [vI x0, vR (some a1), vR z2] h Q ↔ Rn r 94 96 [l0, l1, l2, l3, l4] [vI (hI h a1 x0.toNatClampNeg), vR z2] h Q := Rn_nx pg94 rfl ((if_pos ⟨hk, hk2⟩).trans (if_neg hx))
theorem sX6_leaves_96 (hk : hK h a1 = 15) : Rn r 94 96 [l0, l1, l2, l3, l4] [vI x0, vR (some a1)] h Q ↔ Cl r 52 [vR (some a1), vI x0] h (Kt r 94 99 [l0, l1, l2, l3, l4] [] Q) := Rn_call pg94 rfl (by simp only [am_exec, am_inv, am_pop, am_lk, hk]; rfl) pg52 rfl rfl rfl
theorem sX6_leaves_99 : Rn r 94 99 [l0, l1, l2, l3, l4] [vI x0] h Q ↔ if x0 = 0 then Rn r 94 106 [l0, l1, l2, l3, l4] [] h Q else Rn r 94 102 [l0, l1, l2, l3, l4] [] h Q := Rn_if pg94 rfl rfl rfl
theorem sX6_leaves_102 : Rn r 94 102 [l0, l1, l2, l3, l4] [] h Q ↔ Rn r 94 103 [l0, l1, l2, l3, l4] [vI 1] h Q := Rn_nx pg94 rfl rfl
theorem sX6_leaves_103 : Rn r 94 103 [l0, l1, l2, l3, l4] [vI x0] h Q ↔ Rn r 94 107 [l0, l1, l2, l3, l4] [vI x0] h Q := Rn_nx pg94 rfl rfl
theorem sX6_leaves_106 : Rn r 94 106 [l0, l1, l2, l3, l4] [] h Q ↔ Rn r 94 107 [l0, l1, l2, l3, l4] [vI 0] h Q := Rn_nx pg94 rfl rfl
theorem sX6_leaves_107 (hf : am_fit 4 x0 = true) : Rn r 94 107 [l0, l1, l2, l3, l4] [vI x0] h Q ↔ Q (Sum.inl (some (vI x0))) h := Rn_end pg94 rfl (if_pos hf)
theorem sX6_leaves_108 : Rn r 94 108 [l0, l1, l2, l3, l4] [] h Q ↔ Rn r 94 109 [l0, l1, l2, l3, l4] [vI 0] h Q := Rn_nx pg94 rfl rfl
theorem sX6_leaves_109 : Rn r 94 109 [l0, l1, l2, l3, l4] [vI x0] h Q ↔ Rn r 94 110 [l0, l1, l2, some (vI x0), l4] [] h Q := Rn_nx pg94 rfl rfl
theorem sX6_leaves_110 : Rn r 94 110 [l0, l1, l2, some (vI x), l4] [] h Q ↔ Rn r 94 111 [l0, l1, l2, some (vI x), l4] [vI x] h Q := Rn_nx pg94 rfl rfl
theorem sX6_leaves_111 : Rn r 94 111 [some (vR z), l1, l2, l3, l4] [vI x0] h Q ↔ Rn r 94 112 [some (vR z), l1, l2, l3, l4] [vR z, vI x0] h Q := Rn_nx pg94 rfl rfl
theorem sX6_leaves_112 (hk : hK h a0 = 15) : Rn r 94 112 [l0, l1, l2, l3, l4] [vR (some a0), vI x1] h Q ↔ Rn r 94 115 [l0, l1, l2, l3, l4] [vR (hR h a0 19), vI x1] h Q := Rn_nx pg94 rfl (if_pos ⟨(hk ▸ Nat.le_refl _), (hk ▸ Nat.le_refl _)⟩)
theorem sX6_leaves_115 : Rn r 94 115 [some (vR z), l1, l2, l3, l4] [vR z0, vI x1] h Q ↔ Rn r 94 116 [some (vR z), l1, l2, l3, l4] [vR z, vR z0, vI x1] h Q := Rn_nx pg94 rfl rfl
theorem sX6_leaves_116 (hk : hK h a0 = 15) : Rn r 94 116 [l0, l1, l2, l3, l4] [vR (some a0), vR z1, vI x2] h Q ↔ Rn r 94 119 [l0, l1, l2, l3, l4] [vI (hI h a0 2), vR z1, vI x2] h Q := Rn_nx pg94 rfl (if_pos ⟨(hk ▸ Nat.le_refl _), (hk ▸ Nat.le_refl _)⟩)
theorem sX6_leaves_119 (hk : 40 ≤ hK h a1) (hk2 : hK h a1 ≤ 41) (hx : ¬ (x0 < 0 ∨ hL h a1 ≤ x0.toNatClampNeg)) : Rn r 94 119 [l0, l1, l2, l3, l4] [vI x0, vR (some a1), vI x2] h Q ↔ Rn r 94 120 [l0, l1, l2, l3, l4] [vI (hI h a1 x0.toNatClampNeg), vI x2] h Q := Rn_nx pg94 rfl ((if_pos ⟨hk, hk2⟩).trans (if_neg hx))
theorem sX6_leaves_120 : Rn r 94 120 [l0, l1, l2, l3, l4] [vI x0, vI x1] h Q ↔ if x0 ≤ x1 then Rn r 94 182 [l0, l1, l2, l3, l4] [] h Q else Rn r 94 123 [l0, l1, l2, l3, l4] [] h Q := Rn_if pg94 rfl rfl rfl
theorem sX6_leaves_123 : Rn r 94 123 [some (vR z), l1, l2, l3, l4] [] h Q ↔ Rn r 94 124 [some (vR z), l1, l2, l3, l4] [vR z] h Q := Rn_nx pg94 rfl rfl
theorem sX6_leaves_124 (hk : hK h a0 = 15) : Rn r 94 124 [l0, l1, l2, l3, l4] [vR (some a0)] h Q ↔ Rn r 94 127 [l0, l1, l2, l3, l4] [vI (hI h a0 2)] h Q := Rn_nx pg94 rfl (if_pos ⟨(hk ▸ Nat.le_refl _), (hk ▸ Nat.le_refl _)⟩)
theorem sX6_leaves_127 : Rn r 94 127 [l0, l1, l2, l3, l4] [vI x0] h Q ↔ Rn r 94 129 [l0, l1, l2, l3, l4] [vI 120, vI x0] h Q := Rn_nx pg94 rfl rfl
theorem sX6_leaves_129 : Rn r 94 129 [l0, l1, l2, l3, l4] [vI x0, vI x1] h Q ↔ Rn r 94 130 [l0, l1, l2, l3, l4] [vI (x1 * x0)] h Q := Rn_nx pg94 rfl rfl
theorem sX6_leaves_130 : Rn r 94 130 [l0, l1, l2, some (vI x), l4] [vI x0] h Q ↔ Rn r 94 131 [l0, l1, l2, some (vI x), l4] [vI x, vI x0] h Q := Rn_nx pg94 rfl rfl
theorem sX6_leaves_131 : Rn r 94 131 [l0, l1, l2, l3, l4] [vI x0, vI x1] h Q ↔ Rn r 94 132 [l0, l1, l2, l3, l4] [vI (x1 + x0)] h Q := Rn_nx pg94 rfl rfl
theorem sX6_leaves_132 : Rn r 94 132 [l0, l1, l2, l3, l4] [vI x0] h Q ↔ Rn r 94 134 [l0, l1, l2, l3, some (vI x0)] [] h Q := Rn_nx pg94 rfl rfl
theorem sX6_leaves_134 : Rn r 94 134 [l0, l1, some (vI x), l3, l4] [] h Q ↔ Rn r 94 135 [l0, l1, some (vI x), l3, l4] [vI x] h Q := Rn_nx pg94 rfl rfl
theorem sX6_leaves_135 : Rn r 94 135 [l0, l1, l2, l3, l4] [vI x0] h Q ↔ if x0 ≠ 0 then Rn r 94 170 [l0, l1, l2, l3, l4] [] h Q else Rn r 94 138 [l0, l1, l2, l3, l4] [] h Q := Rn_if pg94 rfl rfl rfl
theorem sX6_leaves_138 : Rn r 94 138 [some (vR z), l1, l2, l3, l4] [] h Q ↔ Rn r 94 139 [some (vR z), l1, l2, l3, l4] [vR z] h Q := Rn_nx pg94 rfl rfl
theorem sX6_leaves_139 (hk : hK h a0 = 15) : Rn r 94 139 [l0, l1, l2, l3, l4] [vR (some a0)] h Q ↔ Rn r 94 142 [l0, l1, l2, l3, l4] [vR (hR h a0 20)] h Q := Rn_nx pg94 rfl (if_pos ⟨(hk ▸ Nat.le_refl _), (hk ▸ Nat.le_refl _)⟩)
theorem sX6_leaves_142 : Rn r 94 142 [l0, l1, l2, l3, some (vI x)] [vR z0] h Q ↔ Rn r 94 144 [l0, l1, l2, l3, some (vI x)] [vI x, vR z0] h Q := Rn_nx pg94 rfl rfl
theorem sX6_leaves_144 (hk : 40 ≤ hK h a1) (hk2 : hK h a1 ≤ 41) (hx : ¬ (x0 < 0 ∨ hL h a1 ≤ x0.toNatClampNeg)) : Rn r 94 144 [l0, l1, l2, l3, l4] [vI x0, vR (some a1)] h Q ↔ Rn r 94 145 [l0, l1, l2, l3, l4] [vI (hI h a1 x0.toNatClampNeg)] h Q := Rn_nx pg94 rfl ((if_pos ⟨hk, hk2⟩).trans (if_neg hx))
theorem sX6_leaves_145 : Rn r 94 145 [l0, l1, l2, l3, l4] [vI x0] h Q ↔ Rn r 94 147 [l0, l1, l2, l3, l4] [vI 7, vI x0] h Q := Rn_nx pg94 rfl rfl
theorem sX6_leaves_147 : Rn r 94 147 [l0, l1, l2, l3, l4] [vI x0, vI x1] h Q ↔ if x1 ≠ x0 then Rn r 94 174 [l0, l1, l2, l3, l4] [] h Q else Rn r 94 150 [l0, l1, l2, l3, l4] [] h Q := Rn_if pg94 rfl rfl rfl
theorem sX6_leaves_150 : Rn r 94 150 [some (vR z), l1, l2, l3, l4] [] h Q ↔ Rn r 94 151 [some (vR z), l1, l2, l3, l4] [vR z] h Q := Rn_nx pg94 rfl rfl
theorem sX6_leaves_151 : Rn r 94 151 [l0, l1, l2, l3, some (vI x)] [vR z0] h Q ↔ Rn r 94 153 [l0, l1, l2, l3, some (vI x)] [vI x, vR z0] h Q := Rn_nx pg94 rfl rfl
theorem sX6_leaves_153 (hk : hK h a1 = 15) : Rn r 94 153 [l0, l1, l2, l3, l4] [vI x0, vR (some a1)] h Q ↔ Cl r 112 [vR (some a1), vI x0] h (Kt r 94 156 [l0, l1, l2, l3, l4] [] Q) := Rn_call pg94 rfl (by simp only [am_exec, am_inv, am_pop, am_lk, hk]; rfl) pg112 rfl rfl rfl
theorem sX6_leaves_156 : Rn r 94 156 [l0, some (vI x), l2, l3, l4] [vI x0] h Q ↔ Rn r 94 157 [l0, some (vI x), l2, l3, l4] [vI x, vI x0] h Q := Rn_nx pg94 rfl rfl
theorem sX6_leaves_157 : Rn r 94 157 [l0, l1, l2, l3, l4] [vI x0, vI x1] h Q ↔ if x1 ≠ x0 then Rn r 94 174 [l0, l1, l2, l3, l4] [] h Q else Rn r 94 160 [l0, l1, l2, l3, l4] [] h Q := Rn_if pg94 rfl rfl rfl
theorem sX6_leaves_160 : Rn r 94 160 [some (vR z), l1, l2, l3, l4] [] h Q ↔ Rn r 94 161 [some (vR z), l1, l2, l3, l4] [vR z] h Q := Rn_nx pg94 rfl rfl
theorem sX6_leaves_161 : Rn r 94 161 [l0, l1, l2, l3, some (vI x)] [vR z0] h Q ↔ Rn r 94 163 [l0, l1, l2, l3, some (vI x)] [vI x, vR z0] h Q := Rn_nx pg94 rfl rfl
theorem sX6_leaves_163 : Rn r 94 163 [l0, some (vI x), l2, l3, l4] [vI x0, vR z1] h Q ↔ Rn r 94 164 [l0, some (vI x), l2, l3, l4] [vI x, vI x0, vR z1] h Q := Rn_nx pg94 rfl rfl
theorem sX6_leaves_164 (hk : hK h a2 = 15) : Rn r 94 164 [l0, l1, l2, l3, l4] [vI x0, vI x1, vR (some a2)] h Q ↔ Cl r 141 [vR (some a2), vI x1, vI x0] h (Kt r 94 167 [l0, l1, l2, l3, l4] [] Q) := Rn_call pg94 rfl (by simp only [am_exec, am_inv, am_pop, am_lk, hk]; rfl) pg141 rfl rfl rfl
theorem sX6_leaves_167 : Rn r 94 167 [l0, l1, l2, l3, l4] [vI x0] h Q ↔ if x0 ≠ 0 then Rn r 94 174 [l0, l1, l2, l3, l4] [] h Q else Rn r 94 170 [l0, l1, l2, l3, l4] [] h Q := Rn_if pg94 rfl rfl rfl
theorem sX6_leaves_170 : Rn r 94 170 [l0, l1, l2, l3, l4] [] h Q ↔ Rn r 94 171 [l0, l1, l2, l3, l4] [vI 1] h Q := Rn_nx pg94 rfl rfl
theorem sX6_leaves_171 : Rn r 94 171 [l0, l1, l2, l3, l4] [vI x0] h Q ↔ Rn r 94 175 [l0, l1, l2, l3, l4] [vI x0] h Q := Rn_nx pg94 rfl rfl
theorem sX6_leaves_174 : Rn r 94 174 [l0, l1, l2, l3, l4] [] h Q ↔ Rn r 94 175 [l0, l1, l2, l3, l4] [vI 0] h Q := Rn_nx pg94 rfl rfl
theorem sX6_leaves_175 : Rn r 94 175 [l0, l1, l2, l3, l4] [vI x0] h Q ↔ Rn r 94 176 [l0, l1, some (vI x0), l3, l4] [] h Q := Rn_nx pg94 rfl rfl
theorem sX6_leaves_176 : Rn r 94 176 [l0, l1, l2, some (vI x), l4] [] h Q ↔ Rn r 94 179 [l0, l1, l2, some (vI (x + 1)), l4] [] h Q := Rn_nx pg94 rfl rfl
theorem sX6_leaves_179 : Rn r 94 179 [l0, l1, l2, l3, l4] [] h Q ↔ Rn r 94 110 [l0, l1, l2, l3, l4] [] h Q := Rn_nx pg94 rfl rfl
theorem sX6_leaves_182 : Rn r 94 182 [l0, l1, some (vI x), l3, l4] [] h Q ↔ Rn r 94 183 [l0, l1, some (vI x), l3, l4] [vI x] h Q := Rn_nx pg94 rfl rfl
theorem sX6_leaves_183 (hf : am_fit 4 x0 = true) : Rn r 94 183 [l0, l1, l2, l3, l4] [vI x0] h Q ↔ Q (Sum.inl (some (vI x0))) h := Rn_end pg94 rfl (if_pos hf)
theorem sX6_leaves_184 : Rn r 94 184 [some (vR z), l1, l2, l3, l4] [] h Q ↔ Rn r 94 185 [some (vR z), l1, l2, l3, l4] [vR z] h Q := Rn_nx pg94 rfl rfl
theorem sX6_leaves_185 : Rn r 94 185 [some (vR z), l1, l2, l3, l4] [vR z0] h Q ↔ Rn r 94 186 [some (vR z), l1, l2, l3, l4] [vR z, vR z0] h Q := Rn_nx pg94 rfl rfl
theorem sX6_leaves_186 (hk : hK h a0 = 15) : Rn r 94 186 [l0, l1, l2, l3, l4] [vR (some a0), vR z1] h Q ↔ Rn r 94 189 [l0, l1, l2, l3, l4] [vR (hR h a0 27), vR z1] h Q := Rn_nx pg94 rfl (if_pos ⟨(hk ▸ Nat.le_refl _), (hk ▸ Nat.le_refl _)⟩)
theorem sX6_leaves_189 : Rn r 94 189 [l0, some (vI x), l2, l3, l4] [vR z0, vR z1] h Q ↔ Rn r 94 190 [l0, some (vI x), l2, l3, l4] [vI x, vR z0, vR z1] h Q := Rn_nx pg94 rfl rfl
theorem sX6_leaves_190 (hk : 40 ≤ hK h a1) (hk2 : hK h a1 ≤ 41) (hx : ¬ (x0 < 0 ∨ hL h a1 ≤ x0.toNatClampNeg)) : Rn r 94 190 [l0, l1, l2, l3, l4] [vI x0, vR (some a1), vR z2] h Q ↔ Rn r 94 191 [l0, l1, l2, l3, l4] [vI (hI h a1 x0.toNatClampNeg), vR z2] h Q := Rn_nx pg94 rfl ((if_pos ⟨hk, hk2⟩).trans (if_neg hx))
theorem sX6_leaves_191 (hk : hK h a1 = 15) : Rn r 94 191 [l0, l1, l2, l3, l4] [vI x0, vR (some a1)] h Q ↔ Cl r 52 [vR (some a1), vI x0] h (Kt r 94 194 [l0, l1, l2, l3, l4] [] Q) := Rn_call pg94 rfl (by simp only [am_exec, am_inv, am_pop, am_lk, hk]; rfl) pg52 rfl rfl rfl
theorem sX6_leaves_194 : Rn r 94 194 [l0, l1, l2, l3, l4] [vI x0] h Q ↔ Rn r 94 195 [l0, l1, some (vI x0), l3, l4] [] h Q := Rn_nx pg94 rfl rfl
theorem sX6_leaves_195 : Rn r 94 195 [l0, l1, l2, l3, l4] [] h Q ↔ Rn r 94 196 [l0, l1, l2, l3, l4] [vI 0] h Q := Rn_nx pg94 rfl rfl
theorem sX6_leaves_196 : Rn r 94 196 [l0, l1, l2, l3, l4] [vI x0] h Q ↔ Rn r 94 197 [l0, l1, l2, some (vI x0), l4] [] h Q := Rn_nx pg94 rfl rfl
theorem sX6_leaves_197 : Rn r 94 197 [l0, l1, l2, some (vI x), l4] [] h Q ↔ Rn r 94 198 [l0, l1, l2, some (vI x), l4] [vI x] h Q := Rn_nx pg94 rfl rfl
theorem sX6_leaves_198 : Rn r 94 198 [some (vR z), l1, l2, l3, l4] [vI x0] h Q ↔ Rn r 94 199 [some (vR z), l1, l2, l3, l4] [vR z, vI x0] h Q := Rn_nx pg94 rfl rfl
theorem sX6_leaves_199 (hk : hK h a0 = 15) : Rn r 94 199 [l0, l1, l2, l3, l4] [vR (some a0), vI x1] h Q ↔ Rn r 94 202 [l0, l1, l2, l3, l4] [vR (hR h a0 33), vI x1] h Q := Rn_nx pg94 rfl (if_pos ⟨(hk ▸ Nat.le_refl _), (hk ▸ Nat.le_refl _)⟩)
theorem sX6_leaves_202 : Rn r 94 202 [l0, some (vI x), l2, l3, l4] [vR z0, vI x1] h Q ↔ Rn r 94 203 [l0, some (vI x), l2, l3, l4] [vI x, vR z0, vI x1] h Q := Rn_nx pg94 rfl rfl
theorem sX6_leaves_203 (hk : 40 ≤ hK h a1) (hk2 : hK h a1 ≤ 41) (hx : ¬ (x0 < 0 ∨ hL h a1 ≤ x0.toNatClampNeg)) : Rn r 94 203 [l0, l1, l2, l3, l4] [vI x0, vR (some a1), vI x2] h Q ↔ Rn r 94 204 [l0, l1, l2, l3, l4] [vI (hI h a1 x0.toNatClampNeg), vI x2] h Q := Rn_nx pg94 rfl ((if_pos ⟨hk, hk2⟩).trans (if_neg hx))
theorem sX6_leaves_204 : Rn r 94 204 [l0, l1, l2, l3, l4] [vI x0, vI x1] h Q ↔ if x0 ≤ x1 then Rn r 94 240 [l0, l1, l2, l3, l4] [] h Q else Rn r 94 207 [l0, l1, l2, l3, l4] [] h Q := Rn_if pg94 rfl rfl rfl
theorem sX6_leaves_207 : Rn r 94 207 [l0, l1, some (vI x), l3, l4] [] h Q ↔ Rn r 94 208 [l0, l1, some (vI x), l3, l4] [vI x] h Q := Rn_nx pg94 rfl rfl
theorem sX6_leaves_208 : Rn r 94 208 [l0, l1, l2, l3, l4] [vI x0] h Q ↔ if x0 ≠ 0 then Rn r 94 228 [l0, l1, l2, l3, l4] [] h Q else Rn r 94 211 [l0, l1, l2, l3, l4] [] h Q := Rn_if pg94 rfl rfl rfl
theorem sX6_leaves_211 : Rn r 94 211 [some (vR z), l1, l2, l3, l4] [] h Q ↔ Rn r 94 212 [some (vR z), l1, l2, l3, l4] [vR z] h Q := Rn_nx pg94 rfl rfl
theorem sX6_leaves_212 : Rn r 94 212 [some (vR z), l1, l2, l3, l4] [vR z0] h Q ↔ Rn r 94 213 [some (vR z), l1, l2, l3, l4] [vR z, vR z0] h Q := Rn_nx pg94 rfl rfl
theorem sX6_leaves_213 (hk : hK h a0 = 15) : Rn r 94 213 [l0, l1, l2, l3, l4] [vR (some a0), vR z1] h Q ↔ Rn r 94 216 [l0, l1, l2, l3, l4] [vR (hR h a0 34), vR z1] h Q := Rn_nx pg94 rfl (if_pos ⟨(hk ▸ Nat.le_refl _), (hk ▸ Nat.le_refl _)⟩)
theorem sX6_leaves_216 : Rn r 94 216 [l0, l1, l2, l3, l4] [vR z0, vR z1] h Q ↔ Rn r 94 217 [l0, l1, l2, l3, l4] [vI 4, vR z0, vR z1] h Q := Rn_nx pg94 rfl rfl
theorem sX6_leaves_217 : Rn r 94 217 [l0, some (vI x), l2, l3, l4] [vI x0, vR z1, vR z2] h Q ↔ Rn r 94 218 [l0, some (vI x), l2, l3, l4] [vI x, vI x0, vR z1, vR z2] h Q := Rn_nx pg94 rfl rfl
theorem sX6_leaves_218 : Rn r 94 218 [l0, l1, l2, l3, l4] [vI x0, vI x1, vR z2, vR z3] h Q ↔ Rn r 94 219 [l0, l1, l2, l3, l4] [vI (x1 * x0), vR z2, vR z3] h Q := Rn_nx pg94 rfl rfl
theorem sX6_leaves_219 : Rn r 94 219 [l0, l1, l2, some (vI x), l4] [vI x0, vR z1, vR z2] h Q ↔ Rn r 94 220 [l0, l1, l2, some (vI x), l4] [vI x, vI x0, vR z1, vR z2] h Q := Rn_nx pg94 rfl rfl
theorem sX6_leaves_220 : Rn r 94 220 [l0, l1, l2, l3, l4] [vI x0, vI x1, vR z2, vR z3] h Q ↔ Rn r 94 221 [l0, l1, l2, l3, l4] [vI (x1 + x0), vR z2, vR z3] h Q := Rn_nx pg94 rfl rfl
theorem sX6_leaves_221 (hk : 40 ≤ hK h a1) (hk2 : hK h a1 ≤ 41) (hx : ¬ (x0 < 0 ∨ hL h a1 ≤ x0.toNatClampNeg)) : Rn r 94 221 [l0, l1, l2, l3, l4] [vI x0, vR (some a1), vR z2] h Q ↔ Rn r 94 222 [l0, l1, l2, l3, l4] [vI (hI h a1 x0.toNatClampNeg), vR z2] h Q := Rn_nx pg94 rfl ((if_pos ⟨hk, hk2⟩).trans (if_neg hx))
theorem sX6_leaves_222 (hk : hK h a1 = 15) : Rn r 94 222 [l0, l1, l2, l3, l4] [vI x0, vR (some a1)] h Q ↔ Cl r 52 [vR (some a1), vI x0] h (Kt r 94 225 [l0, l1, l2, l3, l4] [] Q) := Rn_call pg94 rfl (by simp only [am_exec, am_inv, am_pop, am_lk, hk]; rfl) pg52 rfl rfl rfl
theorem sX6_leaves_225 : Rn r 94 225 [l0, l1, l2, l3, l4] [vI x0] h Q ↔ if x0 = 0 then Rn r 94 232 [l0, l1, l2, l3, l4] [] h Q else Rn r 94 228 [l0, l1, l2, l3, l4] [] h Q := Rn_if pg94 rfl rfl rfl
theorem sX6_leaves_228 : Rn r 94 228 [l0, l1, l2, l3, l4] [] h Q ↔ Rn r 94 229 [l0, l1, l2, l3, l4] [vI 1] h Q := Rn_nx pg94 rfl rfl
theorem sX6_leaves_229 : Rn r 94 229 [l0, l1, l2, l3, l4] [vI x0] h Q ↔ Rn r 94 233 [l0, l1, l2, l3, l4] [vI x0] h Q := Rn_nx pg94 rfl rfl
theorem sX6_leaves_232 : Rn r 94 232 [l0, l1, l2, l3, l4] [] h Q ↔ Rn r 94 233 [l0, l1, l2, l3, l4] [vI 0] h Q := Rn_nx pg94 rfl rfl
theorem sX6_leaves_233 : Rn r 94 233 [l0, l1, l2, l3, l4] [vI x0] h Q ↔ Rn r 94 234 [l0, l1, some (vI x0), l3, l4] [] h Q := Rn_nx pg94 rfl rfl
theorem sX6_leaves_234 : Rn r 94 234 [l0, l1, l2, some (vI x), l4] [] h Q ↔ Rn r 94 237 [l0, l1, l2, some (vI (x + 1)), l4] [] h Q := Rn_nx pg94 rfl rfl
theorem sX6_leaves_237 : Rn r 94 237 [l0, l1, l2, l3, l4] [] h Q ↔ Rn r 94 197 [l0, l1, l2, l3, l4] [] h Q := Rn_nx pg94 rfl rfl
theorem sX6_leaves_240 : Rn r 94 240 [l0, l1, some (vI x), l3, l4] [] h Q ↔ Rn r 94 241 [l0, l1, some (vI x), l3, l4] [vI x] h Q := Rn_nx pg94 rfl rfl
theorem sX6_leaves_241 : Rn r 94 241 [l0, l1, l2, l3, l4] [vI x0] h Q ↔ if x0 = 0 then Rn r 94 271 [l0, l1, l2, l3, l4] [] h Q else Rn r 94 244 [l0, l1, l2, l3, l4] [] h Q := Rn_if pg94 rfl rfl rfl
theorem sX6_leaves_244 : Rn r 94 244 [some (vR z), l1, l2, l3, l4] [] h Q ↔ Rn r 94 245 [some (vR z), l1, l2, l3, l4] [vR z] h Q := Rn_nx pg94 rfl rfl
theorem sX6_leaves_245 (hk : hK h a0 = 15) : Rn r 94 245 [l0, l1, l2, l3, l4] [vR (some a0)] h Q ↔ Rn r 94 248 [l0, l1, l2, l3, l4] [vR (hR h a0 29)] h Q := Rn_nx pg94 rfl (if_pos ⟨(hk ▸ Nat.le_refl _), (hk ▸ Nat.le_refl _)⟩)
theorem sX6_leaves_248 : Rn r 94 248 [l0, some (vI x), l2, l3, l4] [vR z0] h Q ↔ Rn r 94 249 [l0, some (vI x), l2, l3, l4] [vI x, vR z0] h Q := Rn_nx pg94 rfl rfl
theorem sX6_leaves_249 (hk : 40 ≤ hK h a1) (hk2 : hK h a1 ≤ 41) (hx : ¬ (x0 < 0 ∨ hL h a1 ≤ x0.toNatClampNeg)) : Rn r 94 249 [l0, l1, l2, l3, l4] [vI x0, vR (some a1)] h Q ↔ Rn r 94 250 [l0, l1, l2, l3, l4] [vI (hI h a1 x0.toNatClampNeg)] h Q := Rn_nx pg94 rfl ((if_pos ⟨hk, hk2⟩).trans (if_neg hx))
theorem sX6_leaves_250 : Rn r 94 250 [l0, l1, l2, l3, l4] [vI x0] h Q ↔ Rn r 94 251 [l0, l1, l2, l3, l4] [vI (-1), vI x0] h Q := Rn_nx pg94 rfl rfl
theorem sX6_leaves_251 : Rn r 94 251 [l0, l1, l2, l3, l4] [vI x0, vI x1] h Q ↔ if x1 = x0 then Rn r 94 267 [l0, l1, l2, l3, l4] [] h Q else Rn r 94 254 [l0, l1, l2, l3, l4] [] h Q := Rn_if pg94 rfl rfl rfl
theorem sX6_leaves_254 : Rn r 94 254 [some (vR z), l1, l2, l3, l4] [] h Q ↔ Rn r 94 255 [some (vR z), l1, l2, l3, l4] [vR z] h Q := Rn_nx pg94 rfl rfl
theorem sX6_leaves_255 : Rn r 94 255 [some (vR z), l1, l2, l3, l4] [vR z0] h Q ↔ Rn r 94 256 [some (vR z), l1, l2, l3, l4] [vR z, vR z0] h Q := Rn_nx pg94 rfl rfl
theorem sX6_leaves_256 (hk : hK h a0 = 15) : Rn r 94 256 [l0, l1, l2, l3, l4] [vR (some a0), vR z1] h Q ↔ Rn r 94 259 [l0, l1, l2, l3, l4] [vR (hR h a0 29), vR z1] h Q := Rn_nx pg94 rfl (if_pos ⟨(hk ▸ Nat.le_refl _), (hk ▸ Nat.le_refl _)⟩)
theorem sX6_leaves_259 : Rn r 94 259 [l0, some (vI x), l2, l3, l4] [vR z0, vR z1] h Q ↔ Rn r 94 260 [l0, some (vI x), l2, l3, l4] [vI x, vR z0, vR z1] h Q := Rn_nx pg94 rfl rfl
theorem sX6_leaves_260 (hk : 40 ≤ hK h a1) (hk2 : hK h a1 ≤ 41) (hx : ¬ (x0 < 0 ∨ hL h a1 ≤ x0.toNatClampNeg)) : Rn r 94 260 [l0, l1, l2, l3, l4] [vI x0, vR (some a1), vR z2] h Q ↔ Rn r 94 261 [l0, l1, l2, l3, l4] [vI (hI h a1 x0.toNatClampNeg), vR z2] h Q := Rn_nx pg94 rfl ((if_pos ⟨hk, hk2⟩).trans (if_neg hx))
theorem sX6_leaves_261 (hk : hK h a1 = 15) : Rn r 94 261 [l0, l1, l2, l3, l4] [vI x0, vR (some a1)] h Q ↔ Cl r 52 [vR (some a1), vI x0] h (Kt r 94 264 [l0, l1, l2, l3, l4] [] Q) := Rn_call pg94 rfl (by simp only [am_exec, am_inv, am_pop, am_lk, hk]; rfl) pg52 rfl rfl rfl
theorem sX6_leaves_264 : Rn r 94 264 [l0, l1, l2, l3, l4] [vI x0] h Q ↔ if x0 = 0 then Rn r 94 271 [l0, l1, l2, l3, l4] [] h Q else Rn r 94 267 [l0, l1, l2, l3, l4] [] h Q := Rn_if pg94 rfl rfl rfl
theorem sX6_leaves_267 : Rn r 94 267 [l0, l1, l2, l3, l4] [] h Q ↔ Rn r 94 268 [l0, l1, l2, l3, l4] [vI 1] h Q := Rn_nx pg94 rfl rfl
theorem sX6_leaves_268 : Rn r 94 268 [l0, l1, l2, l3, l4] [vI x0] h Q ↔ Rn r 94 272 [l0, l1, l2, l3, l4] [vI x0] h Q := Rn_nx pg94 rfl rfl
theorem sX6_leaves_271 : Rn r 94 271 [l0, l1, l2, l3, l4] [] h Q ↔ Rn r 94 272 [l0, l1, l2, l3, l4] [vI 0] h Q := Rn_nx pg94 rfl rfl
theorem sX6_leaves_272 (hf : am_fit 4 x0 = true) : Rn r 94 272 [l0, l1, l2, l3, l4] [vI x0] h Q ↔ Q (Sum.inl (some (vI x0))) h := Rn_end pg94 rfl (if_pos hf)
theorem sX6_leaves_273 : Rn r 94 273 [some (vR z), l1, l2, l3, l4] [] h Q ↔ Rn r 94 274 [some (vR z), l1, l2, l3, l4] [vR z] h Q := Rn_nx pg94 rfl rfl
theorem sX6_leaves_274 : Rn r 94 274 [some (vR z), l1, l2, l3, l4] [vR z0] h Q ↔ Rn r 94 275 [some (vR z), l1, l2, l3, l4] [vR z, vR z0] h Q := Rn_nx pg94 rfl rfl
theorem sX6_leaves_275 (hk : hK h a0 = 15) : Rn r 94 275 [l0, l1, l2, l3, l4] [vR (some a0), vR z1] h Q ↔ Rn r 94 278 [l0, l1, l2, l3, l4] [vR (hR h a0 27), vR z1] h Q := Rn_nx pg94 rfl (if_pos ⟨(hk ▸ Nat.le_refl _), (hk ▸ Nat.le_refl _)⟩)
theorem sX6_leaves_278 : Rn r 94 278 [l0, some (vI x), l2, l3, l4] [vR z0, vR z1] h Q ↔ Rn r 94 279 [l0, some (vI x), l2, l3, l4] [vI x, vR z0, vR z1] h Q := Rn_nx pg94 rfl rfl
theorem sX6_leaves_279 (hk : 40 ≤ hK h a1) (hk2 : hK h a1 ≤ 41) (hx : ¬ (x0 < 0 ∨ hL h a1 ≤ x0.toNatClampNeg)) : Rn r 94 279 [l0, l1, l2, l3, l4] [vI x0, vR (some a1), vR z2] h Q ↔ Rn r 94 280 [l0, l1, l2, l3, l4] [vI (hI h a1 x0.toNatClampNeg), vR z2] h Q := Rn_nx pg94 rfl ((if_pos ⟨hk, hk2⟩).trans (if_neg hx))
theorem sX6_leaves_280 (hk : hK h a1 = 15) : Rn r 94 280 [l0, l1, l2, l3, l4] [vI x0, vR (some a1)] h Q ↔ Cl r 52 [vR (some a1), vI x0] h (Kt r 94 283 [l0, l1, l2, l3, l4] [] Q) := Rn_call pg94 rfl (by simp only [am_exec, am_inv, am_pop, am_lk, hk]; rfl) pg52 rfl rfl rfl
theorem sX6_leaves_283 (hf : am_fit 4 x0 = true) : Rn r 94 283 [l0, l1, l2, l3, l4] [vI x0] h Q ↔ Q (Sum.inl (some (vI x0))) h := Rn_end pg94 rfl (if_pos hf)
theorem sX6_leaves_284 : Rn r 94 284 [l0, l1, l2, l3, l4] [] h Q ↔ Rn r 94 285 [l0, l1, l2, l3, l4] [vI 1] h Q := Rn_nx pg94 rfl rfl
theorem sX6_leaves_285 (hf : am_fit 4 x0 = true) : Rn r 94 285 [l0, l1, l2, l3, l4] [vI x0] h Q ↔ Q (Sum.inl (some (vI x0))) h := Rn_end pg94 rfl (if_pos hf)
/-! 95 ThrowRulesModel.canOf(I)I -/
theorem eX6_canOf : Cl r 95 [vR z0, vI x1] h Q ↔ Rn r 95 0 [some (vR z0), some (vI x1)] [] h Q := Cl_in pg95 rfl
theorem sX6_canOf_0 : Rn r 95 0 [some (vR z), l1] [] h Q ↔ Rn r 95 1 [some (vR z), l1] [vR z] h Q := Rn_nx pg95 rfl rfl
theorem sX6_canOf_1 (hk : hK h a0 = 15) : Rn r 95 1 [l0, l1] [vR (some a0)] h Q ↔ Rn r 95 4 [l0, l1] [vR (hR h a0 20)] h Q := Rn_nx pg95 rfl (if_pos ⟨(hk ▸ Nat.le_refl _), (hk ▸ Nat.le_refl _)⟩)
theorem sX6_canOf_4 : Rn r 95 4 [l0, some (vI x)] [vR z0] h Q ↔ Rn r 95 5 [l0, some (vI x)] [vI x, vR z0] h Q := Rn_nx pg95 rfl rfl
theorem sX6_canOf_5 (hk : 40 ≤ hK h a1) (hk2 : hK h a1 ≤ 41) (hx : ¬ (x0 < 0 ∨ hL h a1 ≤ x0.toNatClampNeg)) : Rn r 95 5 [l0, l1] [vI x0, vR (some a1)] h Q ↔ Rn r 95 6 [l0, l1] [vI (hI h a1 x0.toNatClampNeg)] h Q := Rn_nx pg95 rfl ((if_pos ⟨hk, hk2⟩).trans (if_neg hx))
theorem sX6_canOf_6 : Rn r 95 6 [l0, l1] [vI x0] h Q ↔ Rn r 95 (if x0 = 1 then 64 else if x0 = 2 then 70 else if x0 = 3 then 104 else if x0 = 4 then 76 else if x0 = 5 then 76 else if x0 = 6 then 76 else if x0 = 7 then 104 else if x0 = 8 then 104 else if x0 = 9 then 98 else if x0 = 10 then 104 else if x0 = 11 then 76 else 104) [l0, l1] [] h Q := Rn_nx pg95 rfl rfl
theorem sX6_canOf_64 : Rn r 95 64 [some (vR z), l1] [] h Q ↔ Rn r 95 65 [some (vR z), l1] [vR z] h Q := Rn_nx pg95 rfl rfl
theorem sX6_canOf_65 : Rn r 95 65 [l0, some (vI x)] [vR z0] h Q ↔ Rn r 95 66 [l0, some (vI x)] [vI x, vR z0] h Q := Rn_nx pg95 rfl rfl
theorem sX6_canOf_66 (hk : hK h a1 = 15) : Rn r 95 66 [l0, l1] [vI x0, vR (some a1)] h Q ↔ Cl r 142 [vR (some a1), vI x0] h (Kt r 95 69 [l0, l1] [] Q) := Rn_call pg95 rfl (by simp only [am_exec, am_inv, am_pop, am_lk, hk]; rfl) pg142 rfl rfl rfl
theorem sX6_canOf_69 : Rn r 95 69 [l0, l1] [vI x0] h Q ↔ Q (Sum.inl (some (vI x0))) h := Rn_end pg95 rfl rfl
theorem sX6_canOf_70 : Rn r 95 70 [some (vR z), l1] [] h Q ↔ Rn r 95 71 [some (vR z), l1] [vR z] h Q := Rn_nx pg95 rfl rfl
theorem sX6_canOf_71 : Rn r 95 71 [l0, some (vI x)] [vR z0] h Q ↔ Rn r 95 72 [l0, some (vI x)] [vI x, vR z0] h Q := Rn_nx pg95 rfl rfl
theorem sX6_canOf_72 (hk : hK h a1 = 15) : Rn r 95 72 [l0, l1] [vI x0, vR (some a1)] h Q ↔ Cl r 143 [vR (some a1), vI x0] h (Kt r 95 75 [l0, l1] [] Q) := Rn_call pg95 rfl (by simp only [am_exec, am_inv, am_pop, am_lk, hk]; rfl) pg143 rfl rfl rfl
theorem sX6_canOf_75 : Rn r 95 75 [l0, l1] [vI x0] h Q ↔ Q (Sum.inl (some (vI x0))) h := Rn_end pg95 rfl rfl
theorem sX6_canOf_76 : Rn r 95 76 [some (vR z), l1] [] h Q ↔ Rn r 95 77 [some (vR z), l1] [vR z] h Q := Rn_nx pg95 rfl rfl
theorem sX6_canOf_77 : Rn r 95 77 [some (vR z), l1] [vR z0] h Q ↔ Rn r 95 78 [some (vR z), l1] [vR z, vR z0] h Q := Rn_nx pg95 rfl rfl
theorem sX6_canOf_78 (hk : hK h a0 = 15) : Rn r 95 78 [l0, l1] [vR (some a0), vR z1] h Q ↔ Rn r 95 81 [l0, l1] [vR (hR h a0 27), vR z1] h Q := Rn_nx pg95 rfl (if_pos ⟨(hk ▸ Nat.le_refl _), (hk ▸ Nat.le_refl _)⟩)
theorem sX6_canOf_81 : Rn r 95 81 [l0, some (vI x)] [vR z0, vR z1] h Q ↔ Rn r 95 82 [l0, some (vI x)] [vI x, vR z0, vR z1] h Q := Rn_nx pg95 rfl rfl
theorem sX6_canOf_82 (hk : 40 ≤ hK h a1) (hk2 : hK h a1 ≤ 41) (hx : ¬ (x0 < 0 ∨ hL h a1 ≤ x0.toNatClampNeg)) : Rn r 95 82 [l0, l1] [vI x0, vR (some a1), vR z2] h Q ↔ Rn r 95 83 [l0, l1] [vI (hI h a1 x0.toNatClampNeg), vR z2] h Q := Rn_nx pg95 rfl ((if_pos ⟨hk, hk2⟩).trans (if_neg hx))
theorem sX6_canOf_83 (hk : hK h a1 = 15) : Rn r 95 83 [l0, l1] [vI x0, vR (some a1)] h Q ↔ Cl r 50 [vR (some a1), vI x0] h (Kt r 95 86 [l0, l1] [] Q) := Rn_call pg95 rfl (by simp only [am_exec, am_inv, am_pop, am_lk, hk]; rfl) pg50 rfl rfl rfl
theorem sX6_canOf_86 : Rn r 95 86 [some (vR z), l1] [vI x0] h Q ↔ Rn r 95 87 [some (vR z), l1] [vR z, vI x0] h Q := Rn_nx pg95 rfl rfl
theorem sX6_canOf_87 : Rn r 95 87 [some (vR z), l1] [vR z0, vI x1] h Q ↔ Rn r 95 88 [some (vR z), l1] [vR z, vR z0, vI x1] h Q := Rn_nx pg95 rfl rfl
theorem sX6_canOf_88 (hk : hK h a0 = 15) : Rn r 95 88 [l0, l1] [vR (some a0), vR z1, vI x2] h Q ↔ Rn r 95 91 [l0, l1] [vR (hR h a0 28), vR z1, vI x2] h Q := Rn_nx pg95 rfl (if_pos ⟨(hk ▸ Nat.le_refl _), (hk ▸ Nat.le_refl _)⟩)
theorem sX6_canOf_91 : Rn r 95 91 [l0, some (vI x)] [vR z0, vR z1, vI x2] h Q ↔ Rn r 95 92 [l0, some (vI x)] [vI x, vR z0, vR z1, vI x2] h Q := Rn_nx pg95 rfl rfl
theorem sX6_canOf_92 (hk : 40 ≤ hK h a1) (hk2 : hK h a1 ≤ 41) (hx : ¬ (x0 < 0 ∨ hL h a1 ≤ x0.toNatClampNeg)) : Rn r 95 92 [l0, l1] [vI x0, vR (some a1), vR z2, vI x3] h Q ↔ Rn r 95 93 [l0, l1] [vI (hI h a1 x0.toNatClampNeg), vR z2, vI x3] h Q := Rn_nx pg95 rfl ((if_pos ⟨hk, hk2⟩).trans (if_neg hx))
theorem sX6_canOf_93 (hk : hK h a1 = 15) : Rn r 95 93 [l0, l1] [vI x0, vR (some a1), vI x2] h Q ↔ Cl r 50 [vR (some a1), vI x0] h (Kt r 95 96 [l0, l1] [vI x2] Q) := Rn_call pg95 rfl (by simp only [am_exec, am_inv, am_pop, am_lk, hk]; rfl) pg50 rfl rfl rfl
theorem sX6_canOf_96 : Rn r 95 96 [l0, l1] [vI x0, vI x1] h Q ↔ Rn r 95 97 [l0, l1] [vI (x1 ||| x0)] h Q := Rn_nx pg95 rfl rfl
theorem sX6_canOf_97 : Rn r 95 97 [l0, l1] [vI x0] h Q ↔ Q (Sum.inl (some (vI x0))) h := Rn_end pg95 rfl rfl
theorem sX6_canOf_98 : Rn r 95 98 [some (vR z), l1] [] h Q ↔ Rn r 95 99 [some (vR z), l1] [vR z] h Q := Rn_nx pg95 rfl rfl
theorem sX6_canOf_99 : Rn r 95 99 [l0, some (vI x)] [vR z0] h Q ↔ Rn r 95 100 [l0, some (vI x)] [vI x, vR z0] h Q := Rn_nx pg95 rfl rfl
theorem sX6_canOf_100 (hk : hK h a1 = 15) : Rn r 95 100 [l0, l1] [vI x0, vR (some a1)] h Q ↔ Cl r 144 [vR (some a1), vI x0] h (Kt r 95 103 [l0, l1] [] Q) := Rn_call pg95 rfl (by simp only [am_exec, am_inv, am_pop, am_lk, hk]; rfl) pg144 rfl rfl rfl
theorem sX6_canOf_103 : Rn r 95 103 [l0, l1] [vI x0] h Q ↔ Q (Sum.inl (some (vI x0))) h := Rn_end pg95 rfl rfl
theorem sX6_canOf_104 : Rn r 95 104 [l0, l1] [] h Q ↔ Rn r 95 105 [l0, l1] [vI 0] h Q := Rn_nx pg95 rfl rfl
theorem sX6_canOf_105 : Rn r 95 105 [l0, l1] [vI x0] h Q ↔ Q (Sum.inl (some (vI x0))) h := Rn_end pg95 rfl rfl
/-! 96 ThrowRulesModel.blame(III)V -/
theorem eX6_blame : Cl r 96 [vR z0, vI x1, vI x2, vI x3] h Q ↔ Rn r 96 0 [some (vR z0), some (vI x1), some (vI x2), some (vI x3), none] [] h Q := Cl_in pg96 rfl
theorem sX6_blame_0 : Rn r 96 0 [some (vR z), l1, l2, l3, l4] [] h Q ↔ Rn r 96 1 [some (vR z), l1, l2, l3, l4] [vR z] h Q := Rn_nx pg96 rfl rfl
theorem sX6_blame_1 (hk : hK h a0 = 15) : Rn r 96 1 [l0, l1, l2, l3, l4] [vR (some a0)] h Q ↔ Rn r 96 4 [l0, l1, l2, l3, l4] [vI (hI h a0 60)] h Q := Rn_nx pg96 rfl (if_pos ⟨(hk ▸ Nat.le_refl _), (hk ▸ Nat.le_refl _)⟩)
theorem sX6_blame_4 : Rn r 96 4 [l0, l1, l2, l3, l4] [vI x0] h Q ↔ Rn r 96 6 [l0, l1, l2, l3, some (vI x0)] [] h Q := Rn_nx pg96 rfl rfl
theorem sX6_blame_6 : Rn r 96 6 [l0, l1, l2, l3, some (vI x)] [] h Q ↔ Rn r 96 8 [l0, l1, l2, l3, some (vI x)] [vI x] h Q := Rn_nx pg96 rfl rfl
theorem sX6_blame_8 : Rn r 96 8 [l0, l1, l2, l3, l4] [vI x0] h Q ↔ if x0 ≤ 0 then Rn r 96 101 [l0, l1, l2, l3, l4] [] h Q else Rn r 96 11 [l0, l1, l2, l3, l4] [] h Q := Rn_if pg96 rfl rfl rfl
theorem sX6_blame_11 : Rn r 96 11 [l0, l1, some (vI x), l3, l4] [] h Q ↔ Rn r 96 12 [l0, l1, some (vI x), l3, l4] [vI x] h Q := Rn_nx pg96 rfl rfl
theorem sX6_blame_12 : Rn r 96 12 [l0, some (vI x), l2, l3, l4] [vI x0] h Q ↔ Rn r 96 13 [l0, some (vI x), l2, l3, l4] [vI x, vI x0] h Q := Rn_nx pg96 rfl rfl
theorem sX6_blame_13 : Rn r 96 13 [l0, l1, l2, some (vI x), l4] [vI x0, vI x1] h Q ↔ Rn r 96 14 [l0, l1, l2, some (vI x), l4] [vI x, vI x0, vI x1] h Q := Rn_nx pg96 rfl rfl
theorem sX6_blame_14 : Rn r 96 14 [some (vR z), l1, l2, l3, l4] [vI x0, vI x1, vI x2] h Q ↔ Rn r 96 15 [some (vR z), l1, l2, l3, l4] [vR z, vI x0, vI x1, vI x2] h Q := Rn_nx pg96 rfl rfl
theorem sX6_blame_15 (hk : hK h a0 = 15) : Rn r 96 15 [l0, l1, l2, l3, l4] [vR (some a0), vI x1, vI x2, vI x3] h Q ↔ Rn r 96 18 [l0, l1, l2, l3, l4] [vR (hR h a0 62), vI x1, vI x2, vI x3] h Q := Rn_nx pg96 rfl (if_pos ⟨(hk ▸ Nat.le_refl _), (hk ▸ Nat.le_refl _)⟩)
theorem sX6_blame_18 : Rn r 96 18 [l0, l1, l2, l3, some (vI x)] [vR z0, vI x1, vI x2, vI x3] h Q ↔ Rn r 96 20 [l0, l1, l2, l3, some (vI x)] [vI x, vR z0, vI x1, vI x2, vI x3] h Q := Rn_nx pg96 rfl rfl
theorem sX6_blame_20 : Rn r 96 20 [l0, l1, l2, l3, l4] [vI x0, vR z1, vI x2, vI x3, vI x4] h Q ↔ Rn r 96 21 [l0, l1, l2, l3, l4] [vI 1, vI x0, vR z1, vI x2, vI x3, vI x4] h Q := Rn_nx pg96 rfl rfl
theorem sX6_blame_21 : Rn r 96 21 [l0, l1, l2, l3, l4] [vI x0, vI x1, vR z2, vI x3, vI x4, vI x5] h Q ↔ Rn r 96 22 [l0, l1, l2, l3, l4] [vI (x1 - x0), vR z2, vI x3, vI x4, vI x5] h Q := Rn_nx pg96 rfl rfl
theorem sX6_blame_22 (hk : 40 ≤ hK h a1) (hk2 : hK h a1 ≤ 41) (hx : ¬ (x0 < 0 ∨ hL h a1 ≤ x0.toNatClampNeg)) : Rn r 96 22 [l0, l1, l2, l3, l4] [vI x0, vR (some a1), vI x2, vI x3, vI x4] h Q ↔ Rn r 96 23 [l0, l1, l2, l3, l4] [vI (hI h a1 x0.toNatClampNeg), vI x2, vI x3, vI x4] h Q := Rn_nx pg96 rfl ((if_pos ⟨hk, hk2⟩).trans (if_neg hx))
theorem sX6_blame_23 : Rn r 96 23 [some (vR z), l1, l2, l3, l4] [vI x0, vI x1, vI x2, vI x3] h Q ↔ Rn r 96 24 [some (vR z), l1, l2, l3, l4] [vR z, vI x0, vI x1, vI x2, vI x3] h Q := Rn_nx pg96 rfl rfl
theorem sX6_blame_24 (hk : hK h a0 = 15) : Rn r 96 24 [l0, l1, l2, l3, l4] [vR (some a0), vI x1, vI x2, vI x3, vI x4] h Q ↔ Rn r 96 27 [l0, l1, l2, l3, l4] [vR (hR h a0 61), vI x1, vI x2, vI x3, vI x4] h Q := Rn_nx pg96 rfl (if_pos ⟨(hk ▸ Nat.le_refl _), (hk ▸ Nat.le_refl _)⟩)
theorem sX6_blame_27 : Rn r 96 27 [l0, l1, l2, l3, some (vI x)] [vR z0, vI x1, vI x2, vI x3, vI x4] h Q ↔ Rn r 96 29 [l0, l1, l2, l3, some (vI x)] [vI x, vR z0, vI x1, vI x2, vI x3, vI x4] h Q := Rn_nx pg96 rfl rfl
theorem sX6_blame_29 : Rn r 96 29 [l0, l1, l2, l3, l4] [vI x0, vR z1, vI x2, vI x3, vI x4, vI x5] h Q ↔ Rn r 96 30 [l0, l1, l2, l3, l4] [vI 1, vI x0, vR z1, vI x2, vI x3, vI x4, vI x5] h Q := Rn_nx pg96 rfl rfl
theorem sX6_blame_30 : Rn r 96 30 [l0, l1, l2, l3, l4] [vI x0, vI x1, vR z2, vI x3, vI x4, vI x5, vI x6] h Q ↔ Rn r 96 31 [l0, l1, l2, l3, l4] [vI (x1 - x0), vR z2, vI x3, vI x4, vI x5, vI x6] h Q := Rn_nx pg96 rfl rfl
theorem sX6_blame_31 (hk : 40 ≤ hK h a1) (hk2 : hK h a1 ≤ 41) (hx : ¬ (x0 < 0 ∨ hL h a1 ≤ x0.toNatClampNeg)) : Rn r 96 31 [l0, l1, l2, l3, l4] [vI x0, vR (some a1), vI x2, vI x3, vI x4, vI x5] h Q ↔ Rn r 96 32 [l0, l1, l2, l3, l4] [vI (hI h a1 x0.toNatClampNeg), vI x2, vI x3, vI x4, vI x5] h Q := Rn_nx pg96 rfl ((if_pos ⟨hk, hk2⟩).trans (if_neg hx))
theorem sX6_blame_32 : Rn r 96 32 [some (vR z), l1, l2, l3, l4] [vI x0, vI x1, vI x2, vI x3, vI x4] h Q ↔ Rn r 96 33 [some (vR z), l1, l2, l3, l4] [vR z, vI x0, vI x1, vI x2, vI x3, vI x4] h Q := Rn_nx pg96 rfl rfl
theorem sX6_blame_33 (hk : hK h a0 = 15) : Rn r 96 33 [l0, l1, l2, l3, l4] [vR (some a0), vI x1, vI x2, vI x3, vI x4, vI x5] h Q ↔ Rn r 96 36 [l0, l1, l2, l3, l4] [vR (hR h a0 63), vI x1, vI x2, vI x3, vI x4, vI x5] h Q := Rn_nx pg96 rfl (if_pos ⟨(hk ▸ Nat.le_refl _), (hk ▸ Nat.le_refl _)⟩)
theorem sX6_blame_36 : Rn r 96 36 [l0, l1, l2, l3, some (vI x)] [vR z0, vI x1, vI x2, vI x3, vI x4, vI x5] h Q ↔ Rn r 96 38 [l0, l1, l2, l3, some (vI x)] [vI x, vR z0, vI x1, vI x2, vI x3, vI x4, vI x5] h Q := Rn_nx pg96 rfl rfl
theorem sX6_blame_38 : Rn r 96 38 [l0, l1, l2, l3, l4] [vI x0, vR z1, vI x2, vI x3, vI x4, vI x5, vI x6] h Q ↔ Rn r 96 39 [l0, l1, l2, l3, l4] [vI 1, vI x0, vR z1, vI x2, vI x3, vI x4, vI x5, vI x6] h Q := Rn_nx pg96 rfl rfl
theorem sX6_blame_39 : Rn r 96 39 [l0, l1, l2, l3, l4] [vI x0, vI x1, vR z2, vI x3, vI x4, vI x5, vI x6, vI x7] h Q ↔ Rn r 96 40 [l0, l1, l2, l3, l4] [vI (x1 - x0), vR z2, vI x3, vI x4, vI x5, vI x6, vI x7] h Q := Rn_nx pg96 rfl rfl
theorem sX6_blame_40 (hk : 40 ≤ hK h a1) (hk2 : hK h a1 ≤ 41) (hx : ¬ (x0 < 0 ∨ hL h a1 ≤ x0.toNatClampNeg)) : Rn r 96 40 [l0, l1, l2, l3, l4] [vI x0, vR (some a1), vI x2, vI x3, vI x4, vI x5, vI x6] h Q ↔ Rn r 96 41 [l0, l1, l2, l3, l4] [vI (hI h a1 x0.toNatClampNeg), vI x2, vI x3, vI x4, vI x5, vI x6] h Q := Rn_nx pg96 rfl ((if_pos ⟨hk, hk2⟩).trans (if_neg hx))
theorem sX6_blame_41 : Rn r 96 41 [l0, l1, l2, l3, l4] [vI x0, vI x1, vI x2, vI x3, vI x4, vI x5] h Q ↔ Cl r 145 [vI x5, vI x4, vI x3, vI x2, vI x1, vI x0] h (Kt r 96 44 [l0, l1, l2, l3, l4] [] Q) := Rn_call pg96 rfl rfl pg145 rfl rfl rfl
theorem sX6_blame_44 : Rn r 96 44 [l0, l1, l2, l3, l4] [vI x0] h Q ↔ if x0 = 0 then Rn r 96 101 [l0, l1, l2, l3, l4] [] h Q else Rn r 96 47 [l0, l1, l2, l3, l4] [] h Q := Rn_if pg96 rfl rfl rfl
theorem sX6_blame_47 : Rn r 96 47 [some (vR z), l1, l2, l3, l4] [] h Q ↔ Rn r 96 48 [some (vR z), l1, l2, l3, l4] [vR z] h Q := Rn_nx pg96 rfl rfl
theorem sX6_blame_48 (hk : hK h a0 = 15) : Rn r 96 48 [l0, l1, l2, l3, l4] [vR (some a0)] h Q ↔ Rn r 96 51 [l0, l1, l2, l3, l4] [vR (hR h a0 61)] h Q := Rn_nx pg96 rfl (if_pos ⟨(hk ▸ Nat.le_refl _), (hk ▸ Nat.le_refl _)⟩)
theorem sX6_blame_51 : Rn r 96 51 [l0, l1, l2, l3, some (vI x)] [vR z0] h Q ↔ Rn r 96 53 [l0, l1, l2, l3, some (vI x)] [vI x, vR z0] h Q := Rn_nx pg96 rfl rfl
theorem sX6_blame_53 : Rn r 96 53 [some (vR z), l1, l2, l3, l4] [vI x0, vR z1] h Q ↔ Rn r 96 54 [some (vR z), l1, l2, l3, l4] [vR z, vI x0, vR z1] h Q := Rn_nx pg96 rfl rfl
theorem sX6_blame_54 (hk : hK h a0 = 15) : Rn r 96 54 [l0, l1, l2, l3, l4] [vR (some a0), vI x1, vR z2] h Q ↔ Rn r 96 57 [l0, l1, l2, l3, l4] [vR (hR h a0 61), vI x1, vR z2] h Q := Rn_nx pg96 rfl (if_pos ⟨(hk ▸ Nat.le_refl _), (hk ▸ Nat.le_refl _)⟩)
theorem sX6_blame_57 : Rn r 96 57 [l0, l1, l2, l3, some (vI x)] [vR z0, vI x1, vR z2] h Q ↔ Rn r 96 59 [l0, l1, l2, l3, some (vI x)] [vI x, vR z0, vI x1, vR z2] h Q := Rn_nx pg96 rfl rfl
theorem sX6_blame_59 : Rn r 96 59 [l0, l1, l2, l3, l4] [vI x0, vR z1, vI x2, vR z3] h Q ↔ Rn r 96 60 [l0, l1, l2, l3, l4] [vI 1, vI x0, vR z1, vI x2, vR z3] h Q := Rn_nx pg96 rfl rfl
theorem sX6_blame_60 : Rn r 96 60 [l0, l1, l2, l3, l4] [vI x0, vI x1, vR z2, vI x3, vR z4] h Q ↔ Rn r 96 61 [l0, l1, l2, l3, l4] [vI (x1 - x0), vR z2, vI x3, vR z4] h Q := Rn_nx pg96 rfl rfl
theorem sX6_blame_61 (hk : 40 ≤ hK h a1) (hk2 : hK h a1 ≤ 41) (hx : ¬ (x0 < 0 ∨ hL h a1 ≤ x0.toNatClampNeg)) : Rn r 96 61 [l0, l1, l2, l3, l4] [vI x0, vR (some a1), vI x2, vR z3] h Q ↔ Rn r 96 62 [l0, l1, l2, l3, l4] [vI (hI h a1 x0.toNatClampNeg), vI x2, vR z3] h Q := Rn_nx pg96 rfl ((if_pos ⟨hk, hk2⟩).trans (if_neg hx))
theorem sX6_blame_62 (hk : hK h a2 = 40) (hx : ¬ (x1 < 0 ∨ hL h a2 ≤ x1.toNatClampNeg)) : Rn r 96 62 [l0, l1, l2, l3, l4] [vI x0, vI x1, vR (some a2)] h Q ↔ Rn r 96 63 [l0, l1, l2, l3, l4] [] (putI h a2 x1.toNatClampNeg x0) Q := Rn_nx pg96 rfl ((if_pos hk).trans (if_neg hx))
theorem sX6_blame_63 : Rn r 96 63 [some (vR z), l1, l2, l3, l4] [] h Q ↔ Rn r 96 64 [some (vR z), l1, l2, l3, l4] [vR z] h Q := Rn_nx pg96 rfl rfl
theorem sX6_blame_64 (hk : hK h a0 = 15) : Rn r 96 64 [l0, l1, l2, l3, l4] [vR (some a0)] h Q ↔ Rn r 96 67 [l0, l1, l2, l3, l4] [vR (hR h a0 62)] h Q := Rn_nx pg96 rfl (if_pos ⟨(hk ▸ Nat.le_refl _), (hk ▸ Nat.le_refl _)⟩)
theorem sX6_blame_67 : Rn r 96 67 [l0, l1, l2, l3, some (vI x)] [vR z0] h Q ↔ Rn r 96 69 [l0, l1, l2, l3, some (vI x)] [vI x, vR z0] h Q := Rn_nx pg96 rfl rfl
theorem sX6_blame_69 : Rn r 96 69 [some (vR z), l1, l2, l3, l4] [vI x0, vR z1] h Q ↔ Rn r 96 70 [some (vR z), l1, l2, l3, l4] [vR z, vI x0, vR z1] h Q := Rn_nx pg96 rfl rfl
theorem sX6_blame_70 (hk : hK h a0 = 15) : Rn r 96 70 [l0, l1, l2, l3, l4] [vR (some a0), vI x1, vR z2] h Q ↔ Rn r 96 73 [l0, l1, l2, l3, l4] [vR (hR h a0 62), vI x1, vR z2] h Q := Rn_nx pg96 rfl (if_pos ⟨(hk ▸ Nat.le_refl _), (hk ▸ Nat.le_refl _)⟩)
theorem sX6_blame_73 : Rn r 96 73 [l0, l1, l2, l3, some (vI x)] [vR z0, vI x1, vR z2] h Q ↔ Rn r 96 75 [l0, l1, l2, l3, some (vI x)] [vI x, vR z0, vI x1, vR z2] h Q := Rn_nx pg96 rfl rfl
theorem sX6_blame_75 : Rn r 96 75 [l0, l1, l2, l3, l4] [vI x0, vR z1, vI x2, vR z3] h Q ↔ Rn r 96 76 [l0, l1, l2, l3, l4] [vI 1, vI x0, vR z1, vI x2, vR z3] h Q := Rn_nx pg96 rfl rfl
theorem sX6_blame_76 : Rn r 96 76 [l0, l1, l2, l3, l4] [vI x0, vI x1, vR z2, vI x3, vR z4] h Q ↔ Rn r 96 77 [l0, l1, l2, l3, l4] [vI (x1 - x0), vR z2, vI x3, vR z4] h Q := Rn_nx pg96 rfl rfl
theorem sX6_blame_77 (hk : 40 ≤ hK h a1) (hk2 : hK h a1 ≤ 41) (hx : ¬ (x0 < 0 ∨ hL h a1 ≤ x0.toNatClampNeg)) : Rn r 96 77 [l0, l1, l2, l3, l4] [vI x0, vR (some a1), vI x2, vR z3] h Q ↔ Rn r 96 78 [l0, l1, l2, l3, l4] [vI (hI h a1 x0.toNatClampNeg), vI x2, vR z3] h Q := Rn_nx pg96 rfl ((if_pos ⟨hk, hk2⟩).trans (if_neg hx))
theorem sX6_blame_78 (hk : hK h a2 = 40) (hx : ¬ (x1 < 0 ∨ hL h a2 ≤ x1.toNatClampNeg)) : Rn r 96 78 [l0, l1, l2, l3, l4] [vI x0, vI x1, vR (some a2)] h Q ↔ Rn r 96 79 [l0, l1, l2, l3, l4] [] (putI h a2 x1.toNatClampNeg x0) Q := Rn_nx pg96 rfl ((if_pos hk).trans (if_neg hx))
theorem sX6_blame_79 : Rn r 96 79 [some (vR z), l1, l2, l3, l4] [] h Q ↔ Rn r 96 80 [some (vR z), l1, l2, l3, l4] [vR z] h Q := Rn_nx pg96 rfl rfl
theorem sX6_blame_80 (hk : hK h a0 = 15) : Rn r 96 80 [l0, l1, l2, l3, l4] [vR (some a0)] h Q ↔ Rn r 96 83 [l0, l1, l2, l3, l4] [vR (hR h a0 63)] h Q := Rn_nx pg96 rfl (if_pos ⟨(hk ▸ Nat.le_refl _), (hk ▸ Nat.le_refl _)⟩)
theorem sX6_blame_83 : Rn r 96 83 [l0, l1, l2, l3, some (vI x)] [vR z0] h Q ↔ Rn r 96 85 [l0, l1, l2, l3, some (vI x)] [vI x, vR z0] h Q := Rn_nx pg96 rfl rfl
theorem sX6_blame_85 : Rn r 96 85 [some (vR z), l1, l2, l3, l4] [vI x0, vR z1] h Q ↔ Rn r 96 86 [some (vR z), l1, l2, l3, l4] [vR z, vI x0, vR z1] h Q := Rn_nx pg96 rfl rfl
theorem sX6_blame_86 (hk : hK h a0 = 15) : Rn r 96 86 [l0, l1, l2, l3, l4] [vR (some a0), vI x1, vR z2] h Q ↔ Rn r 96 89 [l0, l1, l2, l3, l4] [vR (hR h a0 63), vI x1, vR z2] h Q := Rn_nx pg96 rfl (if_pos ⟨(hk ▸ Nat.le_refl _), (hk ▸ Nat.le_refl _)⟩)
theorem sX6_blame_89 : Rn r 96 89 [l0, l1, l2, l3, some (vI x)] [vR z0, vI x1, vR z2] h Q ↔ Rn r 96 91 [l0, l1, l2, l3, some (vI x)] [vI x, vR z0, vI x1, vR z2] h Q := Rn_nx pg96 rfl rfl
theorem sX6_blame_91 : Rn r 96 91 [l0, l1, l2, l3, l4] [vI x0, vR z1, vI x2, vR z3] h Q ↔ Rn r 96 92 [l0, l1, l2, l3, l4] [vI 1, vI x0, vR z1, vI x2, vR z3] h Q := Rn_nx pg96 rfl rfl
theorem sX6_blame_92 : Rn r 96 92 [l0, l1, l2, l3, l4] [vI x0, vI x1, vR z2, vI x3, vR z4] h Q ↔ Rn r 96 93 [l0, l1, l2, l3, l4] [vI (x1 - x0), vR z2, vI x3, vR z4] h Q := Rn_nx pg96 rfl rfl
theorem sX6_blame_93 (hk : 40 ≤ hK h a1) (hk2 : hK h a1 ≤ 41) (hx : ¬ (x0 < 0 ∨ hL h a1 ≤ x0.toNatClampNeg)) : Rn r 96 93 [l0, l1, l2, l3, l4] [vI x0, vR (some a1), vI x2, vR z3] h Q ↔ Rn r 96 94 [l0, l1, l2, l3, l4] [vI (hI h a1 x0.toNatClampNeg), vI x2, vR z3] h Q := Rn_nx pg96 rfl ((if_pos ⟨hk, hk2⟩).trans (if_neg hx))
theorem sX6_blame_94 (hk : hK h a2 = 40) (hx : ¬ (x1 < 0 ∨ hL h a2 ≤ x1.toNatClampNeg)) : Rn r 96 94 [l0, l1, l2, l3, l4] [vI x0, vI x1, vR (some a2)] h Q ↔ Rn r 96 95 [l0, l1, l2, l3, l4] [] (putI h a2 x1.toNatClampNeg x0) Q := Rn_nx pg96 rfl ((if_pos hk).trans (if_neg hx))
theorem sX6_blame_95 : Rn r 96 95 [l0, l1, l2, l3, some (vI x)] [] h Q ↔ Rn r 96 98 [l0, l1, l2, l3, some (vI (x + (-1)))] [] h Q := Rn_nx pg96 rfl rfl
theorem sX6_blame_98 : Rn r 96 98 [l0, l1, l2, l3, l4] [] h Q ↔ Rn r 96 6 [l0, l1, l2, l3, l4] [] h Q := Rn_nx pg96 rfl rfl
theorem sX6_blame_101 : Rn r 96 101 [some (vR z), l1, l2, l3, l4] [] h Q ↔ Rn r 96 102 [some (vR z), l1, l2, l3, l4] [vR z] h Q := Rn_nx pg96 rfl rfl
theorem sX6_blame_102 (hk : hK h a0 = 15) : Rn r 96 102 [l0, l1, l2, l3, l4] [vR (some a0)] h Q ↔ Rn r 96 105 [l0, l1, l2, l3, l4] [vR (hR h a0 61)] h Q := Rn_nx pg96 rfl (if_pos ⟨(hk ▸ Nat.le_refl _), (hk ▸ Nat.le_refl _)⟩)
theorem sX6_blame_105 : Rn r 96 105 [l0, l1, l2, l3, some (vI x)] [vR z0] h Q ↔ Rn r 96 107 [l0, l1, l2, l3, some (vI x)] [vI x, vR z0] h Q := Rn_nx pg96 rfl rfl
theorem sX6_blame_107 : Rn r 96 107 [l0, some (vI x), l2, l3, l4] [vI x0, vR z1] h Q ↔ Rn r 96 108 [l0, some (vI x), l2, l3, l4] [vI x, vI x0, vR z1] h Q := Rn_nx pg96 rfl rfl
theorem sX6_blame_108 (hk : hK h a2 = 40) (hx : ¬ (x1 < 0 ∨ hL h a2 ≤ x1.toNatClampNeg)) : Rn r 96 108 [l0, l1, l2, l3, l4] [vI x0, vI x1, vR (some a2)] h Q ↔ Rn r 96 109 [l0, l1, l2, l3, l4] [] (putI h a2 x1.toNatClampNeg x0) Q := Rn_nx pg96 rfl ((if_pos hk).trans (if_neg hx))
theorem sX6_blame_109 : Rn r 96 109 [some (vR z), l1, l2, l3, l4] [] h Q ↔ Rn r 96 110 [some (vR z), l1, l2, l3, l4] [vR z] h Q := Rn_nx pg96 rfl rfl
theorem sX6_blame_110 (hk : hK h a0 = 15) : Rn r 96 110 [l0, l1, l2, l3, l4] [vR (some a0)] h Q ↔ Rn r 96 113 [l0, l1, l2, l3, l4] [vR (hR h a0 62)] h Q := Rn_nx pg96 rfl (if_pos ⟨(hk ▸ Nat.le_refl _), (hk ▸ Nat.le_refl _)⟩)
theorem sX6_blame_113 : Rn r 96 113 [l0, l1, l2, l3, some (vI x)] [vR z0] h Q ↔ Rn r 96 115 [l0, l1, l2, l3, some (vI x)] [vI x, vR z0] h Q := Rn_nx pg96 rfl rfl
theorem sX6_blame_115 : Rn r 96 115 [l0, l1, some (vI x), l3, l4] [vI x0, vR z1] h Q ↔ Rn r 96 116 [l0, l1, some (vI x), l3, l4] [vI x, vI x0, vR z1] h Q := Rn_nx pg96 rfl rfl
theorem sX6_blame_116 (hk : hK h a2 = 40) (hx : ¬ (x1 < 0 ∨ hL h a2 ≤ x1.toNatClampNeg)) : Rn r 96 116 [l0, l1, l2, l3, l4] [vI x0, vI x1, vR (some a2)] h Q ↔ Rn r 96 117 [l0, l1, l2, l3, l4] [] (putI h a2 x1.toNatClampNeg x0) Q := Rn_nx pg96 rfl ((if_pos hk).trans (if_neg hx))
theorem sX6_blame_117 : Rn r 96 117 [some (vR z), l1, l2, l3, l4] [] h Q ↔ Rn r 96 118 [some (vR z), l1, l2, l3, l4] [vR z] h Q := Rn_nx pg96 rfl rfl
theorem sX6_blame_118 (hk : hK h a0 = 15) : Rn r 96 118 [l0, l1, l2, l3, l4] [vR (some a0)] h Q ↔ Rn r 96 121 [l0, l1, l2, l3, l4] [vR (hR h a0 63)] h Q := Rn_nx pg96 rfl (if_pos ⟨(hk ▸ Nat.le_refl _), (hk ▸ Nat.le_refl _)⟩)
theorem sX6_blame_121 : Rn r 96 121 [l0, l1, l2, l3, some (vI x)] [vR z0] h Q ↔ Rn r 96 123 [l0, l1, l2, l3, some (vI x)] [vI x, vR z0] h Q := Rn_nx pg96 rfl rfl
theorem sX6_blame_123 : Rn r 96 123 [l0, l1, l2, some (vI x), l4] [vI x0, vR z1] h Q ↔ Rn r 96 124 [l0, l1, l2, some (vI x), l4] [vI x, vI x0, vR z1] h Q := Rn_nx pg96 rfl rfl
theorem sX6_blame_124 (hk : hK h a2 = 40) (hx : ¬ (x1 < 0 ∨ hL h a2 ≤ x1.toNatClampNeg)) : Rn r 96 124 [l0, l1, l2, l3, l4] [vI x0, vI x1, vR (some a2)] h Q ↔ Rn r 96 125 [l0, l1, l2, l3, l4] [] (putI h a2 x1.toNatClampNeg x0) Q := Rn_nx pg96 rfl ((if_pos hk).trans (if_neg hx))
theorem sX6_blame_125 : Rn r 96 125 [some (vR z), l1, l2, l3, l4] [] h Q ↔ Rn r 96 126 [some (vR z), l1, l2, l3, l4] [vR z] h Q := Rn_nx pg96 rfl rfl
theorem sX6_blame_126 : Rn r 96 126 [l0, l1, l2, l3, l4] [vR z0] h Q ↔ Rn r 96 127 [l0, l1, l2, l3, l4] [vR z0, vR z0] h Q := Rn_nx pg96 rfl rfl
theorem sX6_blame_127 (hk : hK h a0 = 15) : Rn r 96 127 [l0, l1, l2, l3, l4] [vR (some a0), vR z1] h Q ↔ Rn r 96 130 [l0, l1, l2, l3, l4] [vI (hI h a0 60), vR z1] h Q := Rn_nx pg96 rfl (if_pos ⟨(hk ▸ Nat.le_refl _), (hk ▸ Nat.le_refl _)⟩)
theorem sX6_blame_130 : Rn r 96 130 [l0, l1, l2, l3, l4] [vI x0, vR z1] h Q ↔ Rn r 96 131 [l0, l1, l2, l3, l4] [vI 1, vI x0, vR z1] h Q := Rn_nx pg96 rfl rfl
theorem sX6_blame_131 : Rn r 96 131 [l0, l1, l2, l3, l4] [vI x0, vI x1, vR z2] h Q ↔ Rn r 96 132 [l0, l1, l2, l3, l4] [vI (x1 + x0), vR z2] h Q := Rn_nx pg96 rfl rfl
theorem sX6_blame_132 (hk : hK h a1 = 15) : Rn r 96 132 [l0, l1, l2, l3, l4] [vI x0, vR (some a1)] h Q ↔ Rn r 96 135 [l0, l1, l2, l3, l4] [] (putI h a1 60 x0) Q := Rn_nx pg96 rfl ((if_pos ⟨(hk ▸ Nat.le_refl _), (hk ▸ Nat.le_refl _)⟩).trans rfl)
theorem sX6_blame_135 : Rn r 96 135 [l0, l1, l2, l3, l4] [] h Q ↔ Q (Sum.inl none) h := Rn_end pg96 rfl rfl
end ST2
