/-! JDK: builders of texts *-/
section SBS
variable {r a b n k : Nat} {h : am_H} {v : vT} {Q : am_O → am_H → Prop} {x : Int} {T : List Int32}
theorem sb_init0 (ha : hK h a = 16) (an : a < hN h) (hn : n ≤ 3000) : Cl r 102 [vR (some a), vI (iI n)] h Q ↔ Q (Sum.inl none) (putI (putR (newC h 44 n) a 0 (some (hN h))) a 1 (iI 0)) := by
  have k1 : hK (newC h 44 n) a = 16 := by rw [hK_newC, if_neg (by omega)]; exact ha
  have k2 : hK (putR (newC h 44 n) a 0 (some (hN h))) a = 16 := k1
  have nn := nn_i (n := n) (by omega)
  have bn : ¬ (iI n < 0 ∨ 65536 < (iI n).toNatClampNeg) := by
    rw [nn, i_0, iI_lt (by omega) (by omega) (by omega) (by omega)]
    omega
  simp (disch := first | exact fit_0 | exact fit_1 | exact fit_b | omega | assumption | decide) only [eJ22_init, sJ22_init_0, sJ22_init_1, sJ22_init_4, sJ22_init_7, sJ22_init_10, sJ22_init_11, sJ22_init_12, sJ22_init_14, sJ22_init_17, sJ22_init_18, sJ22_init_19, sJ22_init_22, sJ22_init_25, sJ22_init_26, sJ22_init_30, sJ22_init_33, sJ22_init_34, sJ22_init_35, sJ22_init_38, ha, k1, k2, nn, bn, not_false_eq_true, i_0, i_1, iI_eq, if_true, if_false, Int.reduceEq]
theorem sb_init (ha : hK h a = 16) (an : a < hN h) (hn : n ≤ 3000) : Cl r 63 [vR (some a), vI (iI n)] h Q ↔ Q (Sum.inl none) (putI (putR (newC h 44 n) a 0 (some (hN h))) a 1 (iI 0)) := by
  have k0 : 0 < hK h a := by omega
  have k1 : hK h a < 40 := by omega
  simp only [eJ23_init, sJ23_init_0, sJ23_init_1, sJ23_init_2, sJ23_init_5, k0, k1, sb_init0 ha an hn, Kt_0]
theorem sb_init2 (ha : hK h a = 16) (an : a < hN h) : Cl r 215 [vR (some a)] h Q ↔ Q (Sum.inl none) (putI (putR (newC h 44 16) a 0 (some (hN h))) a 1 (iI 0)) := by
  have k0 : 0 < hK h a := by omega
  have k1 : hK h a < 40 := by omega
  have i16 : (16 : Int32) = iI ((16 : Nat) : Int) := rfl
  simp only [eJ23_init_2, sJ23_init_2_0, sJ23_init_2_1, sJ23_init_2_3, sJ23_init_2_6, k0, k1, i16, sb_init0 ha an (show 16 ≤ 3000 by decide), Kt_0]
theorem CR_nSb (c : CR h v) (hn : n ≤ 3000) : CR (putI (putR (newC (newC h 16 4) 44 n) (hN h) 0 (some (hN h + 1))) (hN h) 1 (iI 0)) (vsT (vbm (vnw v 16 4) (hN v.1 + 2) (hS v.1 + 4 + n)) (hN v.1) []) := by
  have n1 : hN (newC h 16 4) = hN h + 1 := rfl
  have hvn := c.hn
  have hvs := c.hs
  refine CR_n2 (T := []) c rfl (fun k => rfl) (fun b hb => ⟨?_, ?_, fun k => ⟨?_, ?_, ?_⟩⟩) (by rw [show hN (putI (putR (newC (newC h 16 4) 44 n) (hN h) 0 (some (hN h + 1))) (hN h) 1 (iI 0)) = hN v.1 + 2 by rw [← hvn]; rfl, show hS (putI (putR (newC (newC h 16 4) 44 n) (hN h) 0 (some (hN h + 1))) (hN h) 1 (iI 0)) = hS v.1 + 4 + n by rw [← hvs]; rfl]) (Or.inr rfl) ?_ ?_ ?_ ?_ (fun _ z => absurd z (List.not_mem_nil)) (Nat.zero_le _) ?_ (fun i hi => absurd hi (Nat.not_lt_zero _)) (fun z => absurd z (by decide)) (fun _ => ?_)
  · rw [hK_putI, hK_putR, hK_newC, n1, if_neg (by omega), hK_newC, if_neg (by omega)]
  · rw [hL_putI, hL_putR, hL_newC, n1, if_neg (by omega), hL_newC, if_neg (by omega)]
  · rw [hI_putI, if_neg (fun w => by have := w.1; omega), hI_putR, hI_newC, n1, if_neg (by omega), hI_newC, if_neg (by omega)]
  · rw [hJ_putI, hJ_putR, hJ_newC, n1, if_neg (by omega), hJ_newC, if_neg (by omega)]
  · rw [hR_putI, hR_putR, if_neg (fun w => by have := w.1; omega), hR_newC, n1, if_neg (by omega), hR_newC, if_neg (by omega)]
  · rw [hK_putI, hK_putR, hK_newC, n1, if_neg (by omega), hK_newC, if_pos rfl]
  · rw [hK_putI, hK_putR, hK_newC, n1, if_pos rfl]
  · rw [hR_putI, hR_putR, if_pos ⟨rfl, rfl⟩]
  · rw [hI_putI, if_pos ⟨rfl, rfl⟩]; rfl
  · rw [hL_putI, hL_putR, hL_newC, n1, if_pos rfl]; exact hn
  · rw [hI_putI, if_neg (fun w => absurd w.2 (by decide)), hI_putR, hI_newC, n1, if_neg (by omega), hI_newC, if_pos rfl]; rfl
theorem v_nSb (c : CR h v) (hn : n ≤ 3000) (q : ∀ h', CR h' (vsT (vbm (vnw v 16 4) (hN v.1 + 2) (hS v.1 + 4 + n)) (hN v.1) []) → Q (Sum.inl none) h') : Cl r 63 [vR (some (hN h)), vI (iI n)] (newC h 16 4) Q := by
  rw [sb_init (by rw [hK_newC, if_pos rfl]) (by rw [hN_newC]; omega) hn]
  exact q _ (CR_nSb c hn)
theorem v_nSb2 (c : CR h v) (q : ∀ h', CR h' (vsT (vbm (vnw v 16 4) (hN v.1 + 2) (hS v.1 + 4 + 16)) (hN v.1) []) → (∀ b, hR h' (hN v.1) 0 = some b → hL h' b = 16) → Q (Sum.inl none) h') : Cl r 215 [vR (some (hN h))] (newC h 16 4) Q := by
  rw [sb_init2 (by rw [hK_newC, if_pos rfl]) (by rw [hN_newC]; omega)]
  refine q _ (CR_nSb c (by decide)) ?_
  intro b hb
  rw [← c.hn, hR_putI, hR_putR, if_pos ⟨rfl, rfl⟩] at hb
  cases hb
  rw [hL_putI, hL_putR, hL_newC, if_pos rfl]
end SBS
