/-! COMPONENT, 145: new Wrong() *-/
section WRO
variable {a r : Nat} {h : am_H} {v : vT} {Q : am_O → am_H → Prop}
theorem wr_p {k : Nat} {z : Option Nat} (c : CR h v) (ka : hK v.1 a = 3) : CR (putR h a k z) (vpR v a k z) ∧ hK (vpR v a k z).1 a = 3 ∧ Fw (fun b _ => b = a) v (vpR v a k z) := ⟨CR_pR c ka rfl, ka, Fw.refl.pR (Or.inr rfl)⟩
theorem c_wrong0 (c : CR h v) (ka : hK v.1 a = 3) (q : ∀ h' v', CR h' v' → Fw (fun b _ => b = a) v v' → hN v'.1 = hN v.1 → hS v'.1 = hS v.1 → Q (Sum.inl none) h') : Cl r 75 [vR (some a)] h Q := by
  have kh := c.kk ka (by decide)
  rw [eX2_init, sX2_init_0, sX2_init_1, sX2_init_2, sX2_init_3, sX2_init_4, sX2_init_5 (by omega) (by omega), eJ2_init, sJ2_init_0, sJ2_init_1, sJ2_init_2, sJ2_init_3, sJ2_init_4, sJ2_init_6 (by omega) (by omega), eJ1_init, sJ1_init_0, sJ1_init_1, sJ1_init_2, sJ1_init_3, sJ1_init_4, sJ1_init_6 (by omega) (by omega), eJ0_init_2, sJ0_init_2_0, sJ0_init_2_1, sJ0_init_2_4, sJ0_init_2_5, sJ0_init_2_6 kh]
  obtain ⟨c1, k1, f1⟩ := wr_p (k := 0) (z := some a) c ka
  rw [sJ0_init_2_9, sJ0_init_2_10, sJ0_init_2_13 (c1.kk k1 (by decide))]
  obtain ⟨c2, k2, f2⟩ := wr_p (k := 1) (z := am_opt (hE (putR h a 0 (some a)) 34)) c1 k1
  rw [sJ0_init_2_16, sJ0_init_2_17, sJ0_init_2_20 (c2.kk k2 (by decide))]
  obtain ⟨c3, k3, f3⟩ := wr_p (k := 2) (z := am_opt (hE (putR (putR h a 0 (some a)) a 1 (am_opt (hE (putR h a 0 (some a)) 34))) 35)) c2 k2
  rw [sJ0_init_2_23, sJ0_init_2_25, if_pos rfl, sJ0_init_2_36, sJ0_init_2_37, sJ0_init_2_38 (c3.kk k3 (by decide))]
  obtain ⟨c4, k4, f4⟩ := wr_p (k := 1) (z := none) c3 k3
  rw [sJ0_init_2_41, sJ0_init_2_42, sJ0_init_2_43 (c4.kk k4 (by decide))]
  obtain ⟨c5, k5, f5⟩ := wr_p (k := 3) (z := none) c4 k4
  rw [sJ0_init_2_46, sJ0_init_2_47, sJ0_init_2_48 (c5.kk k5 (by decide))]
  obtain ⟨c6, k6, f6⟩ := wr_p (k := 0) (z := none) c5 k5
  rw [sJ0_init_2_51, sJ0_init_2_52, if_neg (fun y => y rfl), sJ0_init_2_55, sJ0_init_2_56, sJ0_init_2_57 (c6.kk k6 (by decide))]
  obtain ⟨c7, k7, f7⟩ := wr_p (k := 2) (z := none) c6 k6
  rw [sJ0_init_2_60, Kt_0, sJ1_init_9, Kt_0, sJ2_init_9, Kt_0, sX2_init_8]
  exact q _ _ c7 ((((((f1.trans f2).trans f3).trans f4).trans f5).trans f6).trans f7) rfl rfl
end WRO
