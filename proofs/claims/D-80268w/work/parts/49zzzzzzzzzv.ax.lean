/-! COMPONENT, 135: the house between two calls; told, kind, below, steps *-/
def AX (v : vT) (x rd tp wr wk : Nat) (C R : Nat → Nat) (A : Nat → Int → Nat) (T : Nat → Nat) (p0 : Int) (g : Int → Int) (w : Int) (S U : tSt) : Prop :=
  (hK v.1 x = 1 ∧ hR v.1 x 0 = some tp ∧ hI v.1 x 1 = iI (S 1 0) ∧ hR v.1 x 2 = some rd ∧ hR v.1 x 3 = some (R 3) ∧ hR v.1 x 4 = some wk) ∧ (hK v.1 wk = 14 ∧ hI v.1 wk 4 = iI (S 65 0)) ∧ RdS v rd tp wr C (S 0) ∧ JU R A T w p0 v U (S 58) (S 59) ∧ JP w g U (S 58) (S 59) ∧ (∀ i, 10 ≤ i → i ≤ 14 → T (C i) = 0) ∧
  ((S 60 0 = (mAll U w (S 58) (S 59)).length ∧ S 60 0 ≤ 4000) ∧ ∀ j, 0 ≤ j → j < S 60 0 → (S 61 j, (S 62 j, S 63 j)) = (insA [] (mAll U w (S 58) (S 59))).getD j.toNat (0, (0, 0))) ∧ SL S
section AXS
variable {x rd tp wr wk r : Nat} {C R : Nat → Nat} {A : Nat → Int → Nat} {T : Nat → Nat} {p0 w k y a b : Int} {g : Int → Int} {v : vT} {h : am_H} {S U : tSt} {Q : am_O → am_H → Prop}
theorem c_isIn {c : Int} (ha : -2147483648 ≤ a ∧ a < 2147483648) (hb : -2147483648 ≤ b ∧ b < 2147483648) (hc : -2147483648 ≤ c ∧ c < 2147483648) : Cl r 32 [vI (iI a), vI (iI b), vI (iI c)] h Q ↔ Q (Sum.inl (some (vI (bI (b ≤ a ∧ a ≤ c))))) h := by
  rw [eX0_isIn, sX0_isIn_0, sX0_isIn_1, sX0_isIn_2]
  by_cases h1 : a < b
  · rw [if_pos ((iI_lt ha.1 ha.2 hb.1 hb.2).mpr h1), sX0_isIn_14, sX0_isIn_15 rfl, bI_f (by omega)]
    exact Iff.rfl
  · rw [if_neg (fun z => h1 ((iI_lt ha.1 ha.2 hb.1 hb.2).mp z)), sX0_isIn_5, sX0_isIn_6, sX0_isIn_7]
    by_cases h2 : c < a
    · rw [if_pos ((iI_lt hc.1 hc.2 ha.1 ha.2).mpr h2), sX0_isIn_14, sX0_isIn_15 rfl, bI_f (by omega)]
      exact Iff.rfl
    · rw [if_neg (fun z => h2 ((iI_lt hc.1 hc.2 ha.1 ha.2).mp z)), sX0_isIn_10, sX0_isIn_11, sX0_isIn_15 rfl, bI_t (by omega)]
      exact Iff.rfl
theorem ML_size {L : List tMi} {l : Nat} (m : ML v l L) : (vLs v l).length = L.length := by
  obtain ⟨⟨es, ⟨_, e1, _⟩, e2⟩, _⟩ := m
  rw [e1, e2, List.length_map, List.length_map]
theorem ax_told (c : CR h v) (ax : AX v x rd tp wr wk C R A T p0 g w S U) (hy : -2147483648 ≤ y ∧ y < 2147483648) (q : Q (Sum.inl (some (vI (iI (tTold w S U y))))) h) : Cl r 9 [vR (some x), vI (iI y)] h Q := by
  obtain ⟨⟨kx, r0, i1, r2, r3, r4⟩, _, _, ⟨gx, ml, _⟩, jp, _, ⟨⟨m1, m2⟩, _⟩, _⟩ := ax
  have kxh := c.kk kx (by decide)
  have rk := gx.1.1
  have ku := rk.1
  have kuh := c.kk ku (by decide)
  have b3 := QV_b jp.2.1.2.1 (f := 3) (c := 16) rfl rfl rfl w
  have b9 := QV_b jp.2.1.2.1 (f := 9) (c := 12) rfl rfl rfl w
  have b19 := QV_b jp.2.1.2.1 (f := 19) (c := 120) rfl rfl rfl w
  have e : ∀ n : Int, -2147483648 ≤ n → n < 2147483648 → (iI y = iI n ↔ y = n) := fun n h1 h2 => iI_eq hy.1 hy.2 h1 h2
  rw [eX0_told, sX0_told_0, sX0_told_1]
  unfold tTold at q
  rw [show (0 : Int32) = iI 0 from rfl, show (1 : Int32) = iI 1 from rfl, show (2 : Int32) = iI 2 from rfl, show (3 : Int32) = iI 3 from rfl, show (4 : Int32) = iI 4 from rfl]
  by_cases q0 : y = 0
  · rw [if_pos q0] at q
    rw [if_pos ((e 0 (by decide) (by decide)).mpr q0), sX0_told_36, sX0_told_37 kxh, c.rr kx rfl, r3, sX0_told_40 kuh, c.rr ku rfl, rk.2.1, sX0_told_43 (c.kk rk.2.2.1 (by decide)), v_size c rk.2.2.1, Kt_v, rk.2.2.2.1, rowL_len, sX0_told_46, show (((U 3 w).toNat : Nat) : Int) = U 3 w by omega]
    exact q
  · rw [if_neg q0] at q
    rw [if_neg (fun z => q0 ((e 0 (by decide) (by decide)).mp z))]
    by_cases q1 : y = 1
    · rw [if_pos q1] at q
      obtain ⟨a1, a2, a3⟩ := gx.2.2.1.1
      rw [if_pos ((e 1 (by decide) (by decide)).mpr q1), sX0_told_47, sX0_told_48 kxh, c.rr kx rfl, r3, sX0_told_51 kuh, c.rr ku rfl, a1, sX0_told_54 (c.kk a2 (by decide)), v_size c a2, Kt_v, a3, rowL_len, sX0_told_57, show (((U 9 w).toNat : Nat) : Int) = U 9 w by omega]
      exact q
    · rw [if_neg q1] at q
      rw [if_neg (fun z => q1 ((e 1 (by decide) (by decide)).mp z))]
      by_cases q2 : y = 2
      · rw [if_pos q2] at q
        obtain ⟨a1, a2, a3⟩ := gx.1.2.2
        rw [if_pos ((e 2 (by decide) (by decide)).mpr q2), sX0_told_58, sX0_told_59 kxh, c.rr kx rfl, r3, sX0_told_62 kuh, c.rr ku rfl, a1, sX0_told_65 (c.kk a2 (by decide)), v_size c a2, Kt_v, a3, rowL_len, sX0_told_68, show (((U 19 w).toNat : Nat) : Int) = U 19 w by omega]
        exact q
      · rw [if_neg q2] at q
        rw [if_neg (fun z => q2 ((e 2 (by decide) (by decide)).mp z))]
        by_cases q3 : y = 3
        · rw [if_pos q3] at q
          have k9 := gx.2.2.2.1.2.2.2.2
          rw [if_pos ((e 3 (by decide) (by decide)).mpr q3), sX0_told_69, sX0_told_70 kxh, c.rr kx rfl, r3, sX0_told_73 kuh, c.rr ku rfl, gx.1.2.1, sX0_told_76 (c.kk k9 (by decide)), v_size c k9, Kt_v, ML_size ml, insA_len, List.length_nil, Nat.zero_add, sX0_told_79, ← m1]
          exact q
        · rw [if_neg q3] at q
          rw [if_neg (fun z => q3 ((e 3 (by decide) (by decide)).mp z))]
          by_cases q4 : y = 4
          · rw [if_pos q4] at q
            rw [if_pos ((e 4 (by decide) (by decide)).mpr q4), sX0_told_80, sX0_told_81 kxh, c.ii kx rfl, i1, sX0_told_84]
            exact q
          · rw [if_neg q4] at q
            rw [if_neg (fun z => q4 ((e 4 (by decide) (by decide)).mp z)), sX0_told_85, sX0_told_87]
            exact q
theorem ax_steps (c : CR h v) (ax : AX v x rd tp wr wk C R A T p0 g w S U) (q : Q (Sum.inl (some (vI (iI (S 65 0))))) h) : Cl r 25 [vR (some x)] h Q := by
  obtain ⟨⟨kx, r0, i1, r2, r3, r4⟩, ⟨kw, i4⟩, _⟩ := ax
  rw [eX0_steps, sX0_steps_0, sX0_steps_1 (c.kk kx (by decide)), c.rr kx rfl, r4, sX0_steps_4 (c.kk kw (by decide)), c.ii kw rfl, i4, sX0_steps_7]
  exact q
theorem i_sub1 {n : Int} : iI n - 1 = iI (n - 1) := by
  rw [show (1 : Int32) = iI 1 from rfl]
  exact (Int32.ofInt_sub n 1).symm
theorem ax_below (c : CR h v) (ax : AX v x rd tp wr wk C R A T p0 g w S U) (ha : -2147483648 ≤ a ∧ a < 2147483648) (hb : -2147483648 ≤ b ∧ b < 2147483648) (q : Q (Sum.inl (some (vI (bI (tBlw w U a b = true))))) h) : Cl r 15 [vR (some x), vI (iI a), vI (iI b)] h Q := by
  obtain ⟨⟨kx, r0, i1, r2, r3, r4⟩, _, _, ⟨gx, ml, _⟩, jp, _⟩ := ax
  have kxh := c.kk kx (by decide)
  have rk := gx.1.1
  have ku := rk.1
  have kuh := c.kk ku (by decide)
  have kl := rk.2.2.1
  have kX : KX h v (R 3) (R 4) U w (A 0) := ⟨c, gx.1.1, jp.2.1.2.2.1⟩
  obtain ⟨_, _, n3, kk, sz, gt, klh⟩ := kX.raw
  unfold tBlw at q
  rw [eX0_below, sX0_below_0, sX0_below_1 kxh, c.rr kx rfl, r3, sX0_below_4 kuh, c.rr ku rfl, rk.2.1, sX0_below_7 klh, sz, Kt_v, sX0_below_10, sX0_below_11, i_sub1, sX0_below_12, sX0_below_13, sX0_below_14, sX0_below_15, sX0_below_16, show (0 : Int32) = iI 0 from rfl, c_isIn ha (by omega) (by omega), Kt_v, sX0_below_19]
  by_cases z : 0 ≤ a ∧ a ≤ U 3 w - 1
  · rw [if_neg (by rw [bI_t z]; decide), sX0_below_22, sX0_below_23, sX0_below_24, sX0_below_25, show (0 : Int32) = iI 0 from rfl, c_isIn hb (by omega) (by omega), Kt_v, sX0_below_28]
    by_cases y : 0 ≤ b ∧ b ≤ U 3 w - 1
    · rw [decide_eq_true (p := 0 ≤ a ∧ a < U 3 w ∧ 0 ≤ b ∧ b < U 3 w) (by omega), Bool.true_and] at q
      obtain ⟨a1, _⟩ := kk a z.1 (by omega)
      obtain ⟨a2, _⟩ := kk b y.1 (by omega)
      rw [if_neg (by rw [bI_t y]; decide), sX0_below_31, sX0_below_32 kxh, c.rr kx rfl, r3, sX0_below_35 kuh, c.rr ku rfl, rk.2.1, sX0_below_38, sX0_below_39 klh, gt _ a _ z.1 (by omega), Kt_v, sX0_below_42 (by rw [a1]; decide), sX0_below_45, sX0_below_46 kxh, c.rr kx rfl, r3, sX0_below_49 kuh, c.rr ku rfl, rk.2.1, sX0_below_52, sX0_below_53 klh, gt _ b _ y.1 (by omega), Kt_v, sX0_below_56 (by rw [a2]; decide), sX0_below_59 a1, c_isBelow kX ⟨z.1, by omega⟩ ⟨y.1, by omega⟩, Kt_v, sX0_below_62]
      by_cases t : bel U w a b = true
      · rw [if_neg (by rw [bI_t t]; decide), sX0_below_65, sX0_below_66, sX0_below_70 rfl]
        rw [bI_t t] at q
        exact q
      · rw [if_pos (by rw [bI_f t]; rfl), sX0_below_69, sX0_below_70 rfl]
        rw [bI_f t] at q
        exact q
    · rw [decide_eq_false (p := 0 ≤ a ∧ a < U 3 w ∧ 0 ≤ b ∧ b < U 3 w) (by omega), Bool.false_and] at q
      rw [if_pos (by rw [bI_f y]; rfl), sX0_below_69, sX0_below_70 rfl]
      exact q
  · rw [decide_eq_false (p := 0 ≤ a ∧ a < U 3 w ∧ 0 ≤ b ∧ b < U 3 w) (by omega), Bool.false_and] at q
    rw [if_pos (by rw [bI_f z]; rfl), sX0_below_69, sX0_below_70 rfl]
    exact q
end AXS
