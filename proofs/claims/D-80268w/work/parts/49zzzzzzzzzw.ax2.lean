/-! COMPONENT, 136: kind, mistake, method *-/
section AX2
variable {x rd tp wr wk r : Nat} {C R : Nat → Nat} {A : Nat → Int → Nat} {T : Nat → Nat} {p0 w k y a b : Int} {g : Int → Int} {v : vT} {h : am_H} {S U : tSt} {Q : am_O → am_H → Prop}
theorem ax_kind (c : CR h v) (ax : AX v x rd tp wr wk C R A T p0 g w S U) (hk : -2147483648 ≤ k ∧ k < 2147483648) (hy : -2147483648 ≤ y ∧ y < 2147483648) (q : Q (Sum.inl (some (vI (iI (tKnd w U k y))))) h) : Cl r 13 [vR (some x), vI (iI k), vI (iI y)] h Q := by
  obtain ⟨⟨kx, r0, i1, r2, r3, r4⟩, _, _, ⟨gx, ml, _⟩, jp, _⟩ := ax
  have kxh := c.kk kx (by decide)
  have rk := gx.1.1
  have ku := rk.1
  have kuh := c.kk ku (by decide)
  have kX : KX h v (R 3) (R 4) U w (A 0) := ⟨c, gx.1.1, jp.2.1.2.2.1⟩
  obtain ⟨_, _, n3, kk, sz, gt, klh⟩ := kX.raw
  unfold tKnd at q
  rw [eX0_kind, sX0_kind_0, sX0_kind_1, sX0_kind_2, sX0_kind_3 kxh, c.rr kx rfl, r3, sX0_kind_6 kuh, c.rr ku rfl, rk.2.1, sX0_kind_9 klh, sz, Kt_v, sX0_kind_12, sX0_kind_13, i_sub1, sX0_kind_14, show (0 : Int32) = iI 0 from rfl, c_isIn hk (by omega) (by omega), Kt_v, sX0_kind_17]
  by_cases z : 0 ≤ k ∧ k ≤ U 3 w - 1
  · rw [if_neg (by omega)] at q
    rw [if_neg (by rw [bI_t z]; decide), sX0_kind_20, sX0_kind_21, sX0_kind_22, sX0_kind_23, show (0 : Int32) = iI 0 from rfl, show (2 : Int32) = iI 2 from rfl, c_isIn hy (by omega) (by omega), Kt_v, sX0_kind_26]
    by_cases t : 0 ≤ y ∧ y ≤ 2
    · obtain ⟨a1, a2, a3, a4⟩ := kk k z.1 (by omega)
      have e : ∀ n : Int, -2147483648 ≤ n → n < 2147483648 → (iI y = iI n ↔ y = n) := fun n h1 h2 => iI_eq hy.1 hy.2 h1 h2
      rw [if_pos (by rw [bI_t t]; decide), sX0_kind_32, sX0_kind_33 kxh, c.rr kx rfl, r3, sX0_kind_36 kuh, c.rr ku rfl, rk.2.1, sX0_kind_39, sX0_kind_40 klh, gt _ k _ z.1 (by omega), Kt_v, sX0_kind_43 (by rw [a1]; decide), sX0_kind_46, sX0_kind_47, sX0_kind_48, show (0 : Int32) = iI 0 from rfl]
      by_cases y0 : y = 0
      · rw [if_pos y0] at q
        rw [if_neg (fun s => s ((e 0 (by decide) (by decide)).mpr y0)), sX0_kind_51, sX0_kind_52 a1, a4, sX0_kind_55]
        by_cases p : par U w k = -1
        · rw [p] at q
          rw [p, optA_n, if_neg (fun s => s rfl), sX0_kind_58, sX0_kind_59, sX0_kind_100]
          exact q
        · have pb : 0 ≤ par U w k ∧ par U w k < U 3 w := by
            have := par_rg (U := U) (w := w) (k := k) n3
            omega
          obtain ⟨b1, b2, _⟩ := kk (par U w k) pb.1 pb.2
          rw [optA_s p, if_pos (by simp), sX0_kind_62, sX0_kind_63 a1, a4, optA_s p, sX0_kind_66 b1, b2, sX0_kind_69, sX0_kind_100]
          exact q
      · rw [if_neg y0] at q
        rw [if_pos (fun s => y0 ((e 0 (by decide) (by decide)).mp s)), sX0_kind_72, sX0_kind_73, sX0_kind_74, show (1 : Int32) = iI 1 from rfl]
        by_cases y1 : y = 1
        · rw [if_pos y1] at q
          rw [if_neg (fun s => s ((e 1 (by decide) (by decide)).mpr y1)), sX0_kind_77, sX0_kind_78 kxh, c.rr kx rfl, r3, sX0_kind_81, sX0_kind_82 kuh, c_isChecked kX ⟨z.1, by omega⟩, Kt_v, sX0_kind_85]
          unfold b2 at q
          by_cases p : chk U w k = true
          · rw [if_pos p] at q
            rw [if_neg (by rw [bI_t p]; decide), sX0_kind_88, sX0_kind_89, sX0_kind_100]
            exact q
          · rw [if_neg p] at q
            rw [if_pos (by rw [bI_f p]; rfl), sX0_kind_92, sX0_kind_93, sX0_kind_100]
            exact q
        · rw [if_neg y1, if_pos (by omega)] at q
          rw [if_pos (fun s => y1 ((e 1 (by decide) (by decide)).mp s)), sX0_kind_96, sX0_kind_97 a1, a3, sX0_kind_100]
          exact q
    · rw [if_neg (by omega), if_neg (by omega), if_neg (by omega)] at q
      rw [if_neg (by rw [bI_f t]; decide), sX0_kind_29, sX0_kind_31]
      exact q
  · rw [if_pos (by omega)] at q
    rw [if_pos (by rw [bI_f z]; rfl), sX0_kind_29, sX0_kind_31]
    exact q
theorem ax_mist (c : CR h v) (ax : AX v x rd tp wr wk C R A T p0 g w S U) (hk : -2147483648 ≤ k ∧ k < 2147483648) (hy : -2147483648 ≤ y ∧ y < 2147483648) (q : Q (Sum.inl (some (vI (iI (tMist S k y))))) h) : Cl r 11 [vR (some x), vI (iI k), vI (iI y)] h Q := by
  obtain ⟨⟨kx, r0, i1, r2, r3, r4⟩, _, _, ⟨gx, ml, _⟩, jp, _, ⟨⟨m1, m2⟩, m3⟩, _⟩ := ax
  have kxh := c.kk kx (by decide)
  have ku := gx.1.1.1
  have kuh := c.kk ku (by decide)
  have k9 := gx.2.2.2.1.2.2.2.2
  have k9h := c.kk k9 (by decide)
  have len := ML_size ml
  rw [insA_len, List.length_nil, Nat.zero_add] at len
  unfold tMist at q
  rw [eX0_mistake, sX0_mistake_0, sX0_mistake_1, sX0_mistake_2, sX0_mistake_3 kxh, c.rr kx rfl, r3, sX0_mistake_6 kuh, c.rr ku rfl, gx.1.2.1, sX0_mistake_9 k9h, v_size c k9, Kt_v, len, ← m1, sX0_mistake_12, sX0_mistake_13, i_sub1, sX0_mistake_14, show (0 : Int32) = iI 0 from rfl, c_isIn hk (by omega) (by omega), Kt_v, sX0_mistake_17]
  by_cases z : 0 ≤ k ∧ k ≤ S 60 0 - 1
  · rw [if_neg (by omega)] at q
    rw [if_neg (by rw [bI_t z]; decide), sX0_mistake_20, sX0_mistake_21, sX0_mistake_22, sX0_mistake_23, show (0 : Int32) = iI 0 from rfl, show (2 : Int32) = iI 2 from rfl, c_isIn hy (by omega) (by omega), Kt_v, sX0_mistake_26]
    by_cases t : 0 ≤ y ∧ y ≤ 2
    · have e : ∀ n : Int, -2147483648 ≤ n → n < 2147483648 → (iI y = iI n ↔ y = n) := fun n h1 h2 => iI_eq hy.1 hy.2 h1 h2
      have mk := m3 k z.1 (by omega)
      obtain ⟨⟨es, ⟨_, e1, e2⟩, e3⟩, _⟩ := ml
      have esl : es.length = (vLs v (R 9)).length := by rw [e1, List.length_map]
      have kl : k.toNat < es.length := by omega
      have ge : (vLs v (R 9)).getD k.toNat none = some es[k.toNat] := by
        rw [e1, List.getD_eq_getElem?_getD, List.getElem?_map, List.getElem?_eq_getElem kl]
        rfl
      have k17 := e2 es[k.toNat] (List.getElem_mem kl)
      rw [e3, List.getD_eq_getElem?_getD, List.getElem?_map, List.getElem?_eq_getElem kl] at mk
      have mk' : (S 61 k, (S 62 k, S 63 k)) = rdM v es[k.toNat] := mk
      unfold rdM at mk'
      have f0 : hI v.1 es[k.toNat] 0 = iI (S 61 k) := by
        have := (Prod.mk.injEq _ _ _ _ ▸ mk').1
        rw [this]
        exact (Int32.ofInt_toInt _).symm
      have f1 : hI v.1 es[k.toNat] 1 = iI (S 62 k) := by
        have := congrArg (fun p => p.2.1) mk'
        have t2 : S 62 k = (hI v.1 es[k.toNat] 1).toInt := this
        rw [t2]
        exact (Int32.ofInt_toInt _).symm
      have f2 : hI v.1 es[k.toNat] 2 = iI (S 63 k) := by
        have := congrArg (fun p => p.2.2) mk'
        have t2 : S 63 k = (hI v.1 es[k.toNat] 2).toInt := this
        rw [t2]
        exact (Int32.ofInt_toInt _).symm
      rw [if_pos (by rw [bI_t t]; decide), sX0_mistake_32, sX0_mistake_33 kxh, c.rr kx rfl, r3, sX0_mistake_36 kuh, c.rr ku rfl, gx.1.2.1, sX0_mistake_39, sX0_mistake_40 k9h, v_get c k9 z.1 (by omega), Kt_v, ge, sX0_mistake_43 (by rw [c.kk k17 (by decide)]; decide), sX0_mistake_46, sX0_mistake_47, sX0_mistake_48, show (0 : Int32) = iI 0 from rfl]
      by_cases y0 : y = 0
      · rw [if_pos y0] at q
        rw [if_neg (fun s => s ((e 0 (by decide) (by decide)).mpr y0)), sX0_mistake_51, sX0_mistake_52 (c.kk k17 (by decide)), c.ii k17 rfl, f0, sX0_mistake_55, sX0_mistake_74]
        exact q
      · rw [if_neg y0] at q
        rw [if_pos (fun s => y0 ((e 0 (by decide) (by decide)).mp s)), sX0_mistake_58, sX0_mistake_59, sX0_mistake_60, show (1 : Int32) = iI 1 from rfl]
        by_cases y1 : y = 1
        · rw [if_pos y1] at q
          rw [if_neg (fun s => s ((e 1 (by decide) (by decide)).mpr y1)), sX0_mistake_63, sX0_mistake_64 (c.kk k17 (by decide)), c.ii k17 rfl, f1, sX0_mistake_67, sX0_mistake_74]
          exact q
        · rw [if_neg y1, if_pos (by omega)] at q
          rw [if_pos (fun s => y1 ((e 1 (by decide) (by decide)).mp s)), sX0_mistake_70, sX0_mistake_71 (c.kk k17 (by decide)), c.ii k17 rfl, f2, sX0_mistake_74]
          exact q
    · rw [if_neg (by omega), if_neg (by omega), if_neg (by omega)] at q
      rw [if_neg (by rw [bI_f t]; decide), sX0_mistake_29, sX0_mistake_31]
      exact q
  · rw [if_pos (by omega)] at q
    rw [if_pos (by rw [bI_f z]; rfl), sX0_mistake_29, sX0_mistake_31]
    exact q
end AX2
