/-! COMPONENT, 138: method, cut *-/
section AX4
variable {x rd tp wr wk r : Nat} {C R : Nat → Nat} {A : Nat → Int → Nat} {T : Nat → Nat} {p0 w k y a b s n : Int} {g : Int → Int} {v v' : vT} {h : am_H} {S U : tSt} {Q : am_O → am_H → Prop}
theorem ax_meth (c : CR h v) (ax : AX v x rd tp wr wk C R A T p0 g w S U) (hk : -2147483648 ≤ k ∧ k < 2147483648) (hy : -2147483648 ≤ y ∧ y < 2147483648) (q : Q (Sum.inl (some (vI (iI (tMth w S U k y))))) h) : Cl r 17 [vR (some x), vI (iI k), vI (iI y)] h Q := by
  obtain ⟨⟨kx, r0, i1, r2, r3, r4⟩, _, _, ⟨gx, ml, jd⟩, jp, _⟩ := ax
  have kxh := c.kk kx (by decide)
  have ku := gx.1.1.1
  have kuh := c.kk ku (by decide)
  obtain ⟨a1, k6, v6⟩ := gx.2.2.1.1
  have k6h := c.kk k6 (by decide)
  have qv := jp.2.1.2.1
  have qw := jp.2.1.2.2.1
  have w0 := jp.2.1.2.2.2.1
  have b9 := QV_b qv (f := 9) (c := 12) rfl rfl rfl w
  have len : (vLs v (R 6)).length = (U 9 w).toNat := by rw [v6, rowL_len]
  unfold tMth at q
  rw [eX0_method, sX0_method_0, sX0_method_1, sX0_method_2, sX0_method_3 kxh, c.rr kx rfl, r3, sX0_method_6 kuh, c.rr ku rfl, a1, sX0_method_9 k6h, v_size c k6, Kt_v, len, show (((U 9 w).toNat : Nat) : Int) = U 9 w by omega, sX0_method_12, sX0_method_13, i_sub1, sX0_method_14, show (0 : Int32) = iI 0 from rfl, c_isIn hk (by omega) (by omega), Kt_v, sX0_method_17]
  by_cases z : 0 ≤ k ∧ k ≤ U 9 w - 1
  · rw [if_neg (by omega)] at q
    have k9 : k < U 9 w := by omega
    obtain ⟨km, im, ip, i3, _, _, r6, ⟨ln, r7, _, nl⟩, r8⟩ := gx.2.2.1.2.2.2 k z.1 k9
    have kmh := c.kk km (by decide)
    have ge : (vLs v (R 6)).getD k.toNat none = some (A 1 k) := by rw [v6, rowL_get z.1 k9, Int.zero_add]
    have bb : U 18 (w * 12 + k) ≠ -1 → Ab w U (U 18 (w * 12 + k)) := fun t => (jp.1.2.2.1 k z.1 k9 t).1
    have kX : KX h v (R 3) (R 4) U w (A 0) := ⟨c, gx.1.1, qw⟩
    have e : ∀ n : Int, -2147483648 ≤ n → n < 2147483648 → (iI y = iI n ↔ y = n) := fun n h1 h2 => iI_eq hy.1 hy.2 h1 h2
    rw [if_pos (by rw [bI_t z]; decide), sX0_method_23, sX0_method_24 kxh, c.rr kx rfl, r3, sX0_method_27 kuh, c.rr ku rfl, a1, sX0_method_30, sX0_method_31 k6h, v_get c k6 z.1 (by rw [len]; omega), Kt_v, ge, sX0_method_34 (by rw [kmh]; decide), sX0_method_37, sX0_method_38, sX0_method_39, show (0 : Int32) = iI 0 from rfl, show (1 : Int32) = iI 1 from rfl, show (2 : Int32) = iI 2 from rfl, show (3 : Int32) = iI 3 from rfl, show (4 : Int32) = iI 4 from rfl, show (5 : Int32) = iI 5 from rfl, show (6 : Int32) = iI 6 from rfl]
    by_cases q0 : y = 0
    · rw [if_pos q0] at q
      rw [if_pos ((e 0 (by decide) (by decide)).mpr q0), sX0_method_80, sX0_method_81 kmh, c.ii km rfl, ip, sX0_method_84]
      exact q
    · rw [if_neg q0] at q
      rw [if_neg (fun t => q0 ((e 0 (by decide) (by decide)).mp t))]
      by_cases q1 : y = 1
      · rw [if_pos q1] at q
        rw [if_pos ((e 1 (by decide) (by decide)).mpr q1), sX0_method_85, sX0_method_86 kmh, c.rr km rfl, r8, sX0_method_89]
        by_cases p : U 18 (w * 12 + k) = -1
        · rw [if_pos p] at q
          rw [p, optA_n, if_neg (fun t => t rfl), sX0_method_92, sX0_method_93, sX0_method_97]
          exact q
        · rw [if_neg p] at q
          rw [optA_s p, if_pos (by simp), sX0_method_96, sX0_method_97]
          exact q
      · rw [if_neg q1] at q
        rw [if_neg (fun t => q1 ((e 1 (by decide) (by decide)).mp t))]
        by_cases q2 : y = 2
        · rw [if_pos q2] at q
          rw [if_pos ((e 2 (by decide) (by decide)).mpr q2), sX0_method_98, sX0_method_99 kmh, c.rr km rfl, r8, sX0_method_102]
          by_cases p : U 18 (w * 12 + k) = -1
          · rw [p, bC_n] at q
            rw [p, optA_n, if_neg (fun t => t rfl), sX0_method_105, sX0_method_106, sX0_method_116]
            exact q
          · have kb := gx.kb (bb p)
            rw [optA_s p, if_pos (by simp), sX0_method_109, sX0_method_110 kmh, c.rr km rfl, r8, optA_s p, sX0_method_113 (c.kk kb (by decide)), c.ii kb rfl, (jd.1 _ (bb p) trivial).1, sX0_method_116]
            exact q
        · rw [if_neg q2] at q
          rw [if_neg (fun t => q2 ((e 2 (by decide) (by decide)).mp t))]
          by_cases q3 : y = 3
          · rw [if_pos q3] at q
            have b15 := QV_b qv (f := 15) (c := 4) rfl rfl rfl (w * 12 + k)
            rw [if_pos ((e 3 (by decide) (by decide)).mpr q3), sX0_method_117, sX0_method_118 kxh, c.rr kx rfl, r3, sX0_method_121, sX0_method_122 kmh, c.rr km rfl, r7, sX0_method_125 kuh, c_bitsOf kX nl (by omega) (fun i _ _ => kO_b qw.1), Kt_v, ← thO_m (by omega), sX0_method_128]
            exact q
          · rw [if_neg q3] at q
            rw [if_neg (fun t => q3 ((e 3 (by decide) (by decide)).mp t))]
            by_cases q4 : y = 4
            · rw [if_pos q4] at q
              rw [if_pos ((e 4 (by decide) (by decide)).mpr q4), sX0_method_129, sX0_method_130 kmh, c.rr km rfl, r8, sX0_method_133]
              unfold b2 at q
              by_cases p : U 18 (w * 12 + k) = -1
              · have f : ¬ (isL U (S 59) (U 18 (w * 12 + k)) = true) := by rw [p]; unfold isL; simp
                rw [if_neg f] at q
                rw [p, optA_n, if_pos rfl, sX0_method_150, sX0_method_151]
                exact q
              · have kb := gx.kb (bb p)
                rw [optA_s p, if_neg (by simp), sX0_method_136, sX0_method_137 kmh, c.rr km rfl, r8, optA_s p, sX0_method_140 (c.kk kb (by decide)), c.ii kb rfl, (jd.1 _ (bb p) trivial).2, sX0_method_143]
                by_cases f : isL U (S 59) (U 18 (w * 12 + k)) = true
                · rw [if_pos f] at q
                  rw [if_neg (by rw [bI_t f]; decide), sX0_method_146, sX0_method_147, sX0_method_151]
                  exact q
                · rw [if_neg f] at q
                  rw [if_pos (by rw [bI_f f]; rfl), sX0_method_150, sX0_method_151]
                  exact q
            · rw [if_neg q4] at q
              rw [if_neg (fun t => q4 ((e 4 (by decide) (by decide)).mp t))]
              by_cases q5 : y = 5
              · rw [if_pos q5] at q
                rw [if_pos ((e 5 (by decide) (by decide)).mpr q5), sX0_method_152, sX0_method_153 kmh, c.ii km rfl, i3, sX0_method_156]
                by_cases p : U 14 (w * 12 + k) ≠ 0
                · rw [if_neg p] at q
                  rw [if_neg (by rw [bI_t p]; decide), sX0_method_159, sX0_method_160, sX0_method_164]
                  exact q
                · rw [if_pos (Classical.byContradiction p)] at q
                  rw [if_pos (by rw [bI_f p]; rfl), sX0_method_163, sX0_method_164]
                  exact q
              · rw [if_neg q5] at q
                rw [if_neg (fun t => q5 ((e 5 (by decide) (by decide)).mp t))]
                by_cases q6 : y = 6
                · rw [if_pos q6] at q
                  have ovE : ovL U w A (U 9 w) k = optA (A 1) (mOver U w (w * 12 + k)) := by
                    unfold ovL mOver
                    rw [if_pos k9]
                    by_cases t : U 12 (w * 12 + k) = 0
                    · rw [if_pos t, if_pos t]; rfl
                    · rw [if_neg t, if_neg t]
                  rw [ovE] at r6
                  rw [if_pos ((e 6 (by decide) (by decide)).mpr q6), sX0_method_165, sX0_method_166 kmh, c.rr km rfl, r6, sX0_method_169]
                  by_cases p : mOver U w (w * 12 + k) = -1
                  · rw [p] at q
                    rw [p, optA_n, if_neg (fun t => t rfl), sX0_method_172, sX0_method_173, sX0_method_183]
                    exact q
                  · have mvb : 0 ≤ mOver U w (w * 12 + k) ∧ mOver U w (w * 12 + k) < U 9 w := by
                      have mb := mO_b (U := U) (w := w) (x := U 12 (w * 12 + k)) qw.2.1
                      unfold mOver at p ⊢
                      by_cases t : U 12 (w * 12 + k) = 0
                      · rw [if_pos t] at p; exact absurd rfl p
                      · rw [if_neg t] at p ⊢; omega
                    obtain ⟨kv, iv, _⟩ := gx.2.2.1.2.2.2 _ mvb.1 mvb.2
                    rw [optA_s p, if_pos (by simp), sX0_method_176, sX0_method_177 kmh, c.rr km rfl, r6, optA_s p, sX0_method_180 (c.kk kv (by decide)), c.ii kv rfl, iv, sX0_method_183]
                    exact q
                · rw [if_neg q6] at q
                  rw [if_neg (fun t => q6 ((e 6 (by decide) (by decide)).mp t)), sX0_method_184, sX0_method_186]
                  exact q
  · rw [if_pos (by omega)] at q
    rw [if_neg (by rw [bI_f z]; decide), sX0_method_20, sX0_method_22]
    exact q
/-- the house stays, if only the number of bytes fed changes -/
theorem AX_t {t : Int} (ax : AX v x rd tp wr wk C R A T p0 g w S U) (ht : 0 ≤ t ∧ t ≤ 2000) : AX (vpI v x 1 (iI t)) x rd tp wr wk C R A T p0 g w (up S 1 0 t) U := by
  obtain ⟨⟨kx, r0, i1, r2, r3, r4⟩, ⟨kw, i4⟩, ⟨rw0, ⟨kt, lt, htp⟩, gg, kC, ds, cs⟩, ju, jp, tC, ⟨m1, m3⟩, sl⟩ := ax
  have f : Fw (fun a k => a = x ∧ k = 1) v (vpI v x 1 (iI t)) := Fw.refl.pI (Or.inr ⟨rfl, rfl⟩)
  have ne : ∀ {a n : Nat}, hK v.1 a = n → n ≠ 1 → a ≠ x := fun {a n} e h y => by rw [y, kx] at e; omega
  have rf : ∀ {a n : Nat} (_ : hK v.1 a = n), n ≠ 0 → n ≠ 1 → ∀ k, hI (vpI v x 1 (iI t)).1 a k = hI v.1 a k ∧ hR (vpI v x 1 (iI t)).1 a k = hR v.1 a k := fun {a n} e h0 h1 k => by
    have := f.ff (k := k) (hK_lt e h0) (fun y => ne e h1 y.1)
    exact ⟨this.1, this.2.2⟩
  have e0 : ∀ f', f' ≠ 1 → up S 1 0 t f' = S f' := fun f' hf => up_n hf
  refine ⟨⟨kx, r0, ?_, r2, r3, r4⟩, ⟨kw, ?_⟩, ⟨rw0, ⟨kt, lt, fun p h0 h1 => ?_⟩, gg, kC, ds, cs⟩, ?_, ?_, tC, ?_, ?_⟩
  · rw [vpI_1, hI_putI, if_pos ⟨rfl, rfl⟩, up_s]
  · rw [(rf kw (by decide) (by decide) 4).1, e0 65 (by decide)]; exact i4
  · rw [(rf kt (by decide) (by decide) _).1, e0 0 (by decide)]; exact htp p h0 h1
  · rw [e0 58 (by decide), e0 59 (by decide)]
    exact JU_fr ju f (fun a k y _ => Or.inl (by rw [y.1, kx]; decide))
  · rw [e0 58 (by decide), e0 59 (by decide)]; exact jp
  · rw [e0 58 (by decide), e0 59 (by decide), e0 60 (by decide), e0 61 (by decide), e0 62 (by decide), e0 63 (by decide)]; exact ⟨m1, m3⟩
  · obtain ⟨s0, s1, s3, s4, qa⟩ := sl
    refine ⟨by rw [e0 0 (by decide)]; exact s0, by rw [up_s]; exact ht, by rw [e0 53 (by decide)]; exact s3, by rw [e0 54 (by decide)]; exact s4, fun j => ?_⟩
    rw [e0 58 (by decide), e0 59 (by decide)]
    exact qa j
theorem ax_cut (c : CR h v) (ax : AX v x rd tp wr wk C R A T p0 g w S U) (hn : -2147483648 ≤ n ∧ n < 2147483648) (q1 : n < 0 ∨ S 1 0 < n → Q (Sum.inl (some (vI (iI (-3))))) h) (q2 : ¬ (n < 0 ∨ S 1 0 < n) → ∀ h' v', CR h' v' → AX v' x rd tp wr wk C R A T p0 g w (up S 1 0 n) U → hN v'.1 = hN v.1 → hS v'.1 = hS v.1 → KT v v' → Q (Sum.inl (some (vI (iI (S 1 0 - n))))) h') : Cl r 5 [vR (some x), vI (iI n)] h Q := by
  have sl1 := ax.2.2.2.2.2.2.2.2.1
  have kx := ax.1.1
  have i1 := ax.1.2.2.1
  have kxh := c.kk kx (by decide)
  rw [eX0_cut, sX0_cut_0, sX0_cut_1, sX0_cut_2, sX0_cut_3 kxh, c.ii kx rfl, i1, sX0_cut_6, show (0 : Int32) = iI 0 from rfl, c_isIn hn (by omega) (by omega), Kt_v, sX0_cut_9]
  by_cases z : 0 ≤ n ∧ n ≤ S 1 0
  · rw [if_pos (by rw [bI_t z]; decide), sX0_cut_15, sX0_cut_16 kxh, c.ii kx rfl, i1, sX0_cut_19, sX0_cut_20, iI_sub, sX0_cut_21, sX0_cut_22, sX0_cut_23, sX0_cut_24 kxh, sX0_cut_27, sX0_cut_28]
    exact q2 (by omega) _ _ (CR_pI c kx rfl) (AX_t ax ⟨z.1, by omega⟩) rfl rfl (KT_pI kx (by decide))
  · rw [if_neg (by rw [bI_f z]; decide), sX0_cut_12, sX0_cut_14]
    exact q1 (by omega)
end AX4
