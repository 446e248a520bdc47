/-! COMPONENT, 137: statement, method, cut *-/
section AX3
variable {x rd tp wr wk r : Nat} {C R : Nat → Nat} {A : Nat → Int → Nat} {T : Nat → Nat} {p0 w k y a b s : Int} {g : Int → Int} {v : vT} {h : am_H} {S U : tSt} {Q : am_O → am_H → Prop} {l0 l1 l2 l3 : Option am_V}
theorem ax_sort (j : JP w g U (S 58) (S 59)) (c : CR h v) (gx : GX R A T w p0 v U) (hs : As w U s) (q : Q (Sum.inl (some (vI (iI (U 20 s))))) h) : Rn r 19 73 [l0, l1, l2, l3] [vR (some (A 2 s))] h Q := by
  have u20 := (j.2.1.2.2.1.2.2.2.2.1 s hs).2.2.1
  have hsort : U 20 s = 0 ∨ U 20 s = 1 ∨ U 20 s = 2 ∨ U 20 s = 3 ∨ U 20 s = 4 ∨ U 20 s = 5 ∨ U 20 s = 6 ∨ U 20 s = 7 ∨ U 20 s = 8 ∨ U 20 s = 9 ∨ U 20 s = 10 ∨ U 20 s = 11 := by omega
  obtain ⟨f0, f3, f1, f2, f4, f5, f7, f9, f10, f11, _⟩ := gx.fs hs
  have p30 : hK v.1 (A 2 s) = 30 → hI v.1 (A 2 s) 5 = iI (U 20 s) → Rn r 19 73 [l0, l1, l2, l3] [vR (some (A 2 s))] h Q := fun k i => by
    rw [sX0_statement_73_k30 (c.kk k (by decide)), eX14_sort, sX14_sort_0, sX14_sort_1 (c.kk k (by decide)), c.ii k rfl, i, sX14_sort_4, Kt_v, sX0_statement_76]
    exact q
  rcases hsort with e | e | e | e | e | e | e | e | e | e | e | e
  · exact p30 (f0 (Or.inl e)).1 (f0 (Or.inl e)).2.1
  · rw [sX0_statement_73_k31 (c.kk (f1 e).1 (by decide)), eX15_sort, sX15_sort_0, sX15_sort_1, Kt_v, sX0_statement_76]
    rw [e] at q
    exact q
  · rw [sX0_statement_73_k32 (c.kk (f2 e).1 (by decide)), eX16_sort, sX16_sort_0, sX16_sort_1, Kt_v, sX0_statement_76]
    rw [e] at q
    exact q
  · exact p30 (f3 e).1 (by rw [e]; exact (f3 e).2.1)
  · rw [sX0_statement_73_k33 (c.kk (f4 e).1 (by decide)), eX17_sort, sX17_sort_0, sX17_sort_1, Kt_v, sX0_statement_76]
    rw [e] at q
    exact q
  · obtain ⟨k1, k2, _⟩ := f5 (Or.inl e)
    rw [sX0_statement_73_k34 (c.kk k1 (by decide)), eX18_sort, sX18_sort_0, sX18_sort_1 (c.kk k1 (by decide)), c.ii k1 rfl, k2, sX18_sort_4, if_neg (by rw [bI_t e]; decide), sX18_sort_7, sX18_sort_8, sX18_sort_13, Kt_v, sX0_statement_76]
    rw [e] at q
    exact q
  · obtain ⟨k1, k2, _⟩ := f5 (Or.inr e)
    rw [sX0_statement_73_k34 (c.kk k1 (by decide)), eX18_sort, sX18_sort_0, sX18_sort_1 (c.kk k1 (by decide)), c.ii k1 rfl, k2, sX18_sort_4, if_pos (by rw [bI_f (fun t => by rw [e] at t; exact absurd t (by decide))]; rfl), sX18_sort_11, sX18_sort_13, Kt_v, sX0_statement_76]
    rw [e] at q
    exact q
  · obtain ⟨_, _, bk⟩ := f7 e
    rw [sX0_statement_73_k35 (c.kk bk.1 (by decide)), eX19_sort, sX19_sort_0, sX19_sort_2, Kt_v, sX0_statement_76]
    rw [e] at q
    exact q
  · exact p30 (f0 (Or.inr e)).1 (f0 (Or.inr e)).2.1
  · rw [sX0_statement_73_k36 (c.kk (f9 e).1 (by decide)), eX20_sort, sX20_sort_0, sX20_sort_2, Kt_v, sX0_statement_76]
    rw [e] at q
    exact q
  · rw [sX0_statement_73_k37 (c.kk (f10 e).1 (by decide)), eX21_sort, sX21_sort_0, sX21_sort_2, Kt_v, sX0_statement_76]
    rw [e] at q
    exact q
  · rw [sX0_statement_73_k38 (c.kk (f11 e).1 (by decide)), eX13_sort, sX13_sort_0, sX13_sort_2, Kt_v, sX0_statement_76]
    rw [e] at q
    exact q
theorem ax_stmt (c : CR h v) (ax : AX v x rd tp wr wk C R A T p0 g w S U) (hk : -2147483648 ≤ k ∧ k < 2147483648) (hy : -2147483648 ≤ y ∧ y < 2147483648) (q : Q (Sum.inl (some (vI (iI (tSta w S U k y))))) h) : Cl r 19 [vR (some x), vI (iI k), vI (iI y)] h Q := by
  obtain ⟨⟨kx, r0, i1, r2, r3, r4⟩, _, _, ⟨gx, ml, jd⟩, jp, _⟩ := ax
  have kxh := c.kk kx (by decide)
  have ku := gx.1.1.1
  have kuh := c.kk ku (by decide)
  obtain ⟨a1, k8, v8⟩ := gx.1.2.2
  have k8h := c.kk k8 (by decide)
  have b19 := QV_b jp.2.1.2.1 (f := 19) (c := 120) rfl rfl rfl w
  have len : (vLs v (R 8)).length = (U 19 w).toNat := by rw [v8, rowL_len]
  unfold tSta at q
  rw [eX0_statement, sX0_statement_0, sX0_statement_1, sX0_statement_2, sX0_statement_3 kxh, c.rr kx rfl, r3, sX0_statement_6 kuh, c.rr ku rfl, a1, sX0_statement_9 k8h, v_size c k8, Kt_v, len, show (((U 19 w).toNat : Nat) : Int) = U 19 w by omega, sX0_statement_12, sX0_statement_13, i_sub1, sX0_statement_14, show (0 : Int32) = iI 0 from rfl, c_isIn hk (by omega) (by omega), Kt_v, sX0_statement_17]
  by_cases z : 0 ≤ k ∧ k ≤ U 19 w - 1
  · rw [if_neg (by omega)] at q
    have sA : As w U (w * 120 + k) := ⟨by omega, by omega⟩
    have es := (gx.2.2.2.2.1 _ sA).1
    have ks := es.1
    have kh : hK h (A 2 (w * 120 + k)) = hK v.1 (A 2 (w * 120 + k)) := c.kd (by omega)
    have ge : (vLs v (R 8)).getD k.toNat none = some (A 2 (w * 120 + k)) := by rw [v8, rowL_get z.1 (by omega)]
    have sf := (jd.2 _ sA trivial).1
    have e : ∀ n : Int, -2147483648 ≤ n → n < 2147483648 → (iI y = iI n ↔ y = n) := fun n h1 h2 => iI_eq hy.1 hy.2 h1 h2
    rw [if_pos (by rw [bI_t z]; decide), sX0_statement_23, sX0_statement_24 kxh, c.rr kx rfl, r3, sX0_statement_27 kuh, c.rr ku rfl, a1, sX0_statement_30, sX0_statement_31 k8h, v_get c k8 z.1 (by rw [len]; omega), Kt_v, ge, sX0_statement_34 (by
      rw [kh]
      generalize hK v.1 (A 2 (w * 120 + k)) = n at *
      have : n = 30 ∨ n = 31 ∨ n = 32 ∨ n = 33 ∨ n = 34 ∨ n = 35 ∨ n = 36 ∨ n = 37 ∨ n = 38 := by omega
      rcases this with rfl | rfl | rfl | rfl | rfl | rfl | rfl | rfl | rfl <;> decide), sX0_statement_37, sX0_statement_38, sX0_statement_39, show (0 : Int32) = iI 0 from rfl, show (1 : Int32) = iI 1 from rfl, show (2 : Int32) = iI 2 from rfl, show (3 : Int32) = iI 3 from rfl, show (4 : Int32) = iI 4 from rfl]
    by_cases q0 : y = 0
    · rw [if_pos q0] at q
      rw [if_pos ((e 0 (by decide) (by decide)).mpr q0), sX0_statement_72]
      exact ax_sort jp c gx sA q
    · rw [if_neg q0] at q
      rw [if_neg (fun t => q0 ((e 0 (by decide) (by decide)).mp t))]
      by_cases q1 : y = 1
      · rw [if_pos q1] at q
        rw [if_pos ((e 1 (by decide) (by decide)).mpr q1), sX0_statement_77, sX0_statement_78 (by rw [kh]; omega) (by rw [kh]; omega), c.ii (n := hK v.1 (A 2 (w * 120 + k))) rfl (wk_st ks), es.2.2.1, sX0_statement_81]
        exact q
      · rw [if_neg q1] at q
        rw [if_neg (fun t => q1 ((e 1 (by decide) (by decide)).mp t))]
        by_cases q2 : y = 2
        · rw [if_pos q2] at q
          rw [if_pos ((e 2 (by decide) (by decide)).mpr q2), sX0_statement_82, sX0_statement_83 (by rw [kh]; omega) (by rw [kh]; omega), c.ii (n := hK v.1 (A 2 (w * 120 + k))) rfl (wk_st ks), sf.1, sX0_statement_86]
          exact q
        · rw [if_neg q2] at q
          rw [if_neg (fun t => q2 ((e 2 (by decide) (by decide)).mp t))]
          by_cases q3 : y = 3
          · rw [if_pos q3] at q
            rw [if_pos ((e 3 (by decide) (by decide)).mpr q3), sX0_statement_87, sX0_statement_88 (by rw [kh]; omega) (by rw [kh]; omega), c.ii (n := hK v.1 (A 2 (w * 120 + k))) rfl (wk_st ks), sf.2, sX0_statement_91]
            by_cases p : S 59 (w * 120 + k) ≠ 0
            · rw [if_neg p] at q
              rw [if_neg (by rw [bI_t p]; decide), sX0_statement_94, sX0_statement_95, sX0_statement_99]
              exact q
            · rw [if_pos (Classical.byContradiction p)] at q
              rw [if_pos (by rw [bI_f p]; rfl), sX0_statement_98, sX0_statement_99]
              exact q
          · rw [if_neg q3] at q
            rw [if_neg (fun t => q3 ((e 3 (by decide) (by decide)).mp t))]
            by_cases q4 : y = 4
            · rw [if_pos q4] at q
              have u23 := (jp.2.1.2.2.1.2.2.2.2.1 _ sA).2.2.2.1
              obtain ⟨km, im, _⟩ := gx.2.2.1.2.2.2 _ u23.1 u23.2
              rw [if_pos ((e 4 (by decide) (by decide)).mpr q4), sX0_statement_100, sX0_statement_101 (by rw [kh]; omega) (by rw [kh]; omega), c.rr (n := hK v.1 (A 2 (w * 120 + k))) rfl (wk_st ks), es.2.2.2, sX0_statement_104 (c.kk km (by decide)), c.ii km rfl, im, sX0_statement_107]
              exact q
            · rw [if_neg q4] at q
              rw [if_neg (fun t => q4 ((e 4 (by decide) (by decide)).mp t)), sX0_statement_108, sX0_statement_110]
              exact q
  · rw [if_pos (by omega)] at q
    rw [if_neg (by rw [bI_f z]; decide), sX0_statement_20, sX0_statement_22]
    exact q
end AX3
