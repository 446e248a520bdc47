/-! COMPONENT, 18: constructors *-/
/-- behind new ArrayList(n) -/
def vLn (v : vT) (n : Nat) : vT := vsL (vbm (vnw v 4 3) (hN v.1 + 2) (hS v.1 + 3 + n)) (hN v.1) [] n
section CTS
variable {r a n : Nat} {h : am_H} {v : vT} {x y z : Int32} {o s : Option Nat} {Q : am_O → am_H → Prop}
theorem vLn_f : Fw (fun _ _ => False) v (vLn v n) := (Fw.refl.nw.bm (by rw [vnw_1, hN_newC]; omega)).sL (Or.inl (Nat.le_refl _))
theorem vLn_k : hK (vLn v n).1 (hN v.1) = 4 := by
  show hK (bmp (newC v.1 4 3) _ _) _ = 4
  rw [hK_bmp (by rw [hN_newC]; omega), hK_newC, if_pos rfl]
theorem vLn_l : vLs (vLn v n) (hN v.1) = [] := if_pos rfl
theorem vLn_n : hN (vLn v n).1 = hN v.1 + 2 := rfl
theorem vLn_s : hS (vLn v n).1 = hS v.1 + 3 + n := rfl
theorem v_nLn (c : CR h v) (n1 : 1 ≤ n) (n2 : n ≤ 30000) (q : ∀ h', CR h' (vLn v n) → Q (Sum.inl none) h') : Cl r 172 [vR (some (hN h)), vI (iI n)] (newC h 4 3) Q := v_nL2 c n1 n2 q
theorem n4k : 0 < hK (newC h 4 3) (hN h) ∧ hK (newC h 4 3) (hN h) < 40 := by
  rw [hK_newC, if_pos rfl]
  decide
theorem c_iSt : Cl r 298 [vR (some a)] h Q ↔ Q (Sum.inl none) h := by
  rw [eX12_init, sX12_init_0, sX12_init_1, sX12_init_4]
theorem c_iGroup (k : hK h a = 38) : Cl r 271 [vR (some a)] h Q ↔ Q (Sum.inl none) h := by
  rw [eX13_init, sX13_init_0, sX13_init_1 (by omega) (by omega), c_iSt, Kt_0, sX13_init_4]
theorem c_iCall (k : hK h a = 31) : Cl r 273 [vR (some a)] h Q ↔ Q (Sum.inl none) h := by
  rw [eX15_init, sX15_init_0, sX15_init_1 (by omega) (by omega), c_iSt, Kt_0, sX15_init_4]
theorem c_iThrow (k : hK h a = 32) : Cl r 274 [vR (some a)] h Q ↔ Q (Sum.inl none) h := by
  rw [eX16_init, sX16_init_0, sX16_init_1 (by omega) (by omega), c_iSt, Kt_0, sX16_init_4]
theorem c_iIf (k : hK h a = 33) : Cl r 275 [vR (some a)] h Q ↔ Q (Sum.inl none) h := by
  rw [eX17_init, sX17_init_0, sX17_init_1 (by omega) (by omega), c_iSt, Kt_0, sX17_init_4]
theorem c_iPlain (k : hK h a = 30) : Cl r 272 [vR (some a), vI x] h Q ↔ Q (Sum.inl none) (putI h a 5 x) := by
  rw [eX14_init, sX14_init_0, sX14_init_1 (by omega) (by omega), c_iSt, Kt_0, sX14_init_4, sX14_init_5, sX14_init_6 k, sX14_init_9]
theorem c_iAround (k : hK h a = 20) : Cl r 133 [vR (some a), vR o] h Q ↔ Q (Sum.inl none) (putR h a 0 o) := by
  rw [eX10_init, sX10_init_0, sX10_init_1, sX10_init_4, sX10_init_5, sX10_init_6 k, sX10_init_9]
theorem c_iKind (k : hK h a = 7) : Cl r 118 [vR (some a), vR s, vI x, vR o, vI y] h Q ↔ Q (Sum.inl none) (putI (putR (putI (putR h a 0 s) a 1 x) a 2 o) a 3 y) := by
  simp (disch := first | assumption | decide | (simp only [hK_putI, hK_putJ, hK_putR]; assumption) | omega) only [eX4_init, sX4_init_0, sX4_init_1, sX4_init_4, sX4_init_5, sX4_init_6, sX4_init_9, sX4_init_10, sX4_init_11, sX4_init_14, sX4_init_15, sX4_init_16, sX4_init_19, sX4_init_20, sX4_init_22, sX4_init_25, Kt_v, Kt_0, Kt_x, ne_eq, not_true_eq_false, not_false_eq_true, reduceCtorEq, ↓reduceIte]
theorem c_iLoop (c : CR h v) (k : hK v.1 a = 34) (f : am_fit 4 x = true) (q : ∀ h', CR h' (vpI (vpR (vLn v 1) a 7 (some (hN v.1))) a 5 x) → Q (Sum.inl none) h') : Cl r 276 [vR (some a), vI x] h Q := by
  have k0 := c.kk k (by decide)
  have k1 := vLn_f.kk (v' := vLn v 1) k (by decide)
  rw [eX18_init, sX18_init_0, sX18_init_1 (by omega) (by omega), c_iSt, Kt_0, sX18_init_4, sX18_init_5, sX18_init_8, sX18_init_9, sX18_init_10 n4k.1 n4k.2]
  refine v_nLn (n := 1) c (by decide) (by decide) (fun h' c' => ?_)
  rw [Kt_0, c.hn, sX18_init_13 (c'.kk k1 (by decide)), sX18_init_16, sX18_init_17, sX18_init_18 (by rw [hK_putR]; exact c'.kk k1 (by decide)) f, sX18_init_21]
  exact q _ (CR_pI (CR_pR c' k1 rfl) (by exact k1) rfl)
theorem c_iBreak (c : CR h v) (k : hK v.1 a = 35) (q : ∀ h', CR h' (vpR (vLn v 1) a 6 (some (hN v.1))) → Q (Sum.inl none) h') : Cl r 277 [vR (some a)] h Q := by
  have k0 := c.kk k (by decide)
  have k1 := vLn_f.kk (v' := vLn v 1) k (by decide)
  rw [eX19_init, sX19_init_0, sX19_init_1 (by omega) (by omega), c_iSt, Kt_0, sX19_init_4, sX19_init_5, sX19_init_8, sX19_init_9, sX19_init_10 n4k.1 n4k.2]
  refine v_nLn (n := 1) c (by decide) (by decide) (fun h' c' => ?_)
  rw [Kt_0, c.hn, sX19_init_13 (c'.kk k1 (by decide)), sX19_init_16]
  exact q _ (CR_pR c' k1 rfl)
theorem c_iRun (c : CR h v) (k : hK v.1 a = 37) (q : ∀ h', CR h' (vpR (vLn v 1) a 6 (some (hN v.1))) → Q (Sum.inl none) h') : Cl r 279 [vR (some a)] h Q := by
  have k0 := c.kk k (by decide)
  have k1 := vLn_f.kk (v' := vLn v 1) k (by decide)
  rw [eX21_init, sX21_init_0, sX21_init_1 (by omega) (by omega), c_iSt, Kt_0, sX21_init_4, sX21_init_5, sX21_init_8, sX21_init_9, sX21_init_10 n4k.1 n4k.2]
  refine v_nLn (n := 1) c (by decide) (by decide) (fun h' c' => ?_)
  rw [Kt_0, c.hn, sX21_init_13 (c'.kk k1 (by decide)), sX21_init_16]
  exact q _ (CR_pR c' k1 rfl)
theorem c_iBlock (c : CR h v) (k : hK v.1 a = 21) (q : ∀ h', CR h' (vpR (vLn v 3) a 0 (some (hN v.1))) → Q (Sum.inl none) h') : Cl r 174 [vR (some a)] h Q := by
  have k1 := vLn_f.kk (v' := vLn v 3) k (by decide)
  rw [eX11_init, sX11_init_0, sX11_init_1, sX11_init_4, sX11_init_5, sX11_init_8, sX11_init_9, sX11_init_10 n4k.1 n4k.2]
  refine v_nLn (n := 3) c (by decide) (by decide) (fun h' c' => ?_)
  rw [Kt_0, c.hn, sX11_init_13 (c'.kk k1 (by decide)), sX11_init_16]
  exact q _ (CR_pR c' k1 rfl)
theorem c_iCatch (c : CR h v) (k : hK v.1 a = 22) (q : ∀ h', CR h' (vpR (vpR (vLn v 1) a 1 (some (hN v.1))) a 0 o) → Q (Sum.inl none) h') : Cl r 300 [vR (some a), vR o] h Q := by
  have k1 := vLn_f.kk (v' := vLn v 1) k (by decide)
  rw [eX22_init, sX22_init_0, sX22_init_1, sX22_init_4, sX22_init_5, sX22_init_8, sX22_init_9, sX22_init_10 n4k.1 n4k.2]
  refine v_nLn (n := 1) c (by decide) (by decide) (fun h' c' => ?_)
  rw [Kt_0, c.hn, sX22_init_13 (c'.kk k1 (by decide)), sX22_init_16, sX22_init_17, sX22_init_18 (by rw [hK_putR]; exact c'.kk k1 (by decide)), sX22_init_21]
  exact q _ (CR_pR (CR_pR c' k1 rfl) (by exact k1) rfl)
theorem c_iMethod (c : CR h v) (k : hK v.1 a = 18) (q : ∀ h', CR h' (vpI (vpI (vpR (vpR (vLn v 2) a 7 (some (hN v.1))) a 0 s) a 1 x) a 2 y) → Q (Sum.inl none) h') : Cl r 131 [vR (some a), vR s, vI x, vI y] h Q := by
  have k1 := vLn_f.kk (v' := vLn v 2) k (by decide)
  rw [eX8_init, sX8_init_0, sX8_init_1, sX8_init_4, sX8_init_5, sX8_init_8, sX8_init_9, sX8_init_10 n4k.1 n4k.2]
  refine v_nLn (n := 2) c (by decide) (by decide) (fun h' c' => ?_)
  have k2 := c'.kk k1 (by decide)
  rw [Kt_0, c.hn, sX8_init_13 k2, sX8_init_16, sX8_init_17, sX8_init_18 (by rw [hK_putR]; exact k2), sX8_init_21, sX8_init_22, sX8_init_23 (by rw [hK_putR, hK_putR]; exact k2), sX8_init_26, sX8_init_27, sX8_init_28 (by rw [hK_putI, hK_putR, hK_putR]; exact k2), sX8_init_31]
  exact q _ (CR_pI (CR_pI (CR_pR (CR_pR c' k1 rfl) (by exact k1) rfl) (by exact k1) rfl) (by exact k1) rfl)
/-- a new list in a field -/
def vFl (v : vT) (a k n : Nat) : vT := vpR (vLn v n) a k (some (hN v.1))
theorem vFl_k {k : Nat} {b c : Nat} (e : hK v.1 b = c) (h0 : c ≠ 0) : hK (vFl v a k n).1 b = c := vLn_f.kk (v' := vLn v n) e h0
theorem c_iTry (c : CR h v) (k : hK v.1 a = 36) (q : ∀ h', CR h' (vFl (vFl (vFl (vFl v a 5 1) a 6 1) a 7 1) a 9 2) → Q (Sum.inl none) h') : Cl r 278 [vR (some a)] h Q := by
  have k0 := c.kk k (by decide)
  rw [eX20_init, sX20_init_0, sX20_init_1 (by omega) (by omega), c_iSt, Kt_0, sX20_init_4, sX20_init_5, sX20_init_8, sX20_init_9, sX20_init_10 n4k.1 n4k.2]
  refine v_nLn (n := 1) c (by decide) (by decide) (fun h1 c1 => ?_)
  have kk1 := vLn_f.kk (v' := vLn v 1) k (by decide)
  rw [Kt_0, c.hn, sX20_init_13 (c1.kk kk1 (by decide)), sX20_init_16, sX20_init_17, sX20_init_20, sX20_init_21, sX20_init_22 n4k.1 n4k.2]
  have d1 : CR (putR h1 a 5 (some (hN v.1))) (vFl v a 5 1) := CR_pR c1 kk1 rfl
  have e1 : hK (vFl v a 5 1).1 a = 36 := vFl_k k (by decide)
  refine v_nLn (n := 1) d1 (by decide) (by decide) (fun h2 c2 => ?_)
  have kk2 := vLn_f.kk (v' := vLn (vFl v a 5 1) 1) e1 (by decide)
  rw [Kt_0, d1.hn, sX20_init_25 (c2.kk kk2 (by decide)), sX20_init_28, sX20_init_29, sX20_init_32, sX20_init_33, sX20_init_34 n4k.1 n4k.2]
  have d2 : CR (putR h2 a 6 (some (hN (vFl v a 5 1).1))) (vFl (vFl v a 5 1) a 6 1) := CR_pR c2 kk2 rfl
  have e2 : hK (vFl (vFl v a 5 1) a 6 1).1 a = 36 := vFl_k e1 (by decide)
  refine v_nLn (n := 1) d2 (by decide) (by decide) (fun h3 c3 => ?_)
  have kk3 := vLn_f.kk (v' := vLn (vFl (vFl v a 5 1) a 6 1) 1) e2 (by decide)
  rw [Kt_0, d2.hn, sX20_init_37 (c3.kk kk3 (by decide)), sX20_init_40, sX20_init_41, sX20_init_44, sX20_init_45, sX20_init_46 n4k.1 n4k.2]
  have d3 : CR (putR h3 a 7 (some (hN (vFl (vFl v a 5 1) a 6 1).1))) (vFl (vFl (vFl v a 5 1) a 6 1) a 7 1) := CR_pR c3 kk3 rfl
  have e3 : hK (vFl (vFl (vFl v a 5 1) a 6 1) a 7 1).1 a = 36 := vFl_k e2 (by decide)
  refine v_nLn (n := 2) d3 (by decide) (by decide) (fun h4 c4 => ?_)
  have kk4 := vLn_f.kk (v' := vLn (vFl (vFl (vFl v a 5 1) a 6 1) a 7 1) 2) e3 (by decide)
  rw [Kt_0, d3.hn, sX20_init_49 (c4.kk kk4 (by decide)), sX20_init_52]
  exact q _ (CR_pR c4 kk4 rfl)
end CTS
