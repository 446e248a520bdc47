/-! COMPONENT, 158: ThrowRules.walk (23) *-/
/-- of a walk: what stays in range between calls -/
def WB (S : tSt) : Prop := (0 ≤ S 65 0 ∧ S 65 0 ≤ 300) ∧ (∀ j, -1 ≤ S 74 j ∧ S 74 j < 100) ∧ (-1 ≤ S 67 0 ∧ S 67 0 < 100000)
section AXW
variable {x rd tp wr wk r : Nat} {C R : Nat → Nat} {A : Nat → Int → Nat} {T : Nat → Nat} {p0 w k z : Int} {g : Int → Int} {v v' : vT} {h : am_H} {S S' U : tSt} {Q : am_O → am_H → Prop} {X : Nat → Nat → Prop} {t : Int → Int}
theorem RdS_w (y : RdS v rd tp wr C t) (f : Fw X v v') (hx : ∀ a k, X a k → a < hN v.1 → hK v.1 a = 14 ∨ hK v.1 a = 22 ∨ hK v.1 a = 15 ∨ hK v.1 a = 40 ∨ hK v.1 a = 42 ∨ hK v.1 a = 43) : RdS v' rd tp wr C t := by
  obtain ⟨⟨kr, wr0, kw⟩, ⟨kt, lt, ht⟩, ⟨g10, g11, g12, g13, g17⟩, kC, ds, cs⟩ := y
  have no : ∀ {a n : Nat}, hK v.1 a = n → n ≠ 0 → n ≠ 14 ∧ n ≠ 15 ∧ n ≠ 40 → n ≠ 22 ∧ n ≠ 42 ∧ n ≠ 43 → ∀ k, ¬ X a k := fun {a n} e n0 n1 n2 k y => by
    have := hx a k y (hK_lt e n0)
    omega
  have lr := hK_lt kr (by decide)
  have ltp := hK_lt kt (by decide)
  have rr : ∀ k, hR v'.1 rd k = hR v.1 rd k := fun k => (f.ff lr (no kr (by decide) (by decide) (by decide) k)).2.2
  refine ⟨⟨f.kk kr (by decide), by rw [rr 0]; exact wr0, f.kk kw (by decide)⟩, ⟨f.kk kt (by decide), by rw [(f.2.2 tp ltp).2.1]; exact lt, fun p h0 h1 => ?_⟩, ⟨by rw [rr 10]; exact g10, by rw [rr 11]; exact g11, by rw [rr 12]; exact g12, by rw [rr 13]; exact g13, by rw [rr 17]; exact g17⟩, fun i h1 h2 => f.kk (kC i h1 h2) (by decide), ds, fun k hk => ?_⟩
  · rw [(f.ff ltp (no kt (by decide) (by decide) (by decide) _)).1]
    exact ht p h0 h1
  · obtain ⟨c1, c2⟩ := cs k hk
    rw [f.2.1 k]
    refine ⟨f.kk c1 (by decide), ?_⟩
    rw [(f.cc (hK_lt c1 (by decide)) (no c1 (by decide) (by decide) (by decide) _)).2.2.2]
    exact c2
/-- the house behind a walk -/
theorem AX_w (ax : AX v x rd tp wr wk C R A T p0 g w S U) (f : Fw (XW v wk) v v') (ju : JU R A T w p0 v' U (S 58) (S 59)) (e4 : hI v'.1 wk 4 = iI (S' 65 0)) (es : ∀ f, nWk f → S' f = S f) : AX v' x rd tp wr wk C R A T p0 g w S' U := by
  obtain ⟨⟨kx, r0, i1, r2, r3, r4⟩, ⟨kw, i4⟩, y, _, jp, tC, m, sl⟩ := ax
  have hx : ∀ a k, XW v wk a k → a < hN v.1 → hK v.1 a = 14 ∨ hK v.1 a = 22 := fun a k y _ => by
    rcases y with y | y
    · rw [y]; exact Or.inl kw
    · exact Or.inr y.1
  have no : ∀ {a n : Nat}, hK v.1 a = n → n ≠ 0 → n ≠ 14 → n ≠ 22 → ∀ k, ¬ XW v wk a k := fun {a n} e n0 n1 n2 k y => by
    have := hx a k y (hK_lt e n0)
    omega
  have fx := fun k => f.ff (k := k) (hK_lt kx (by decide)) (no kx (by decide) (by decide) (by decide) k)
  have E : ∀ f, f < 57 ∨ (57 < f ∧ f < 64) → S' f = S f := fun f hf => es f (by unfold nWk; omega)
  refine ⟨⟨f.kk kx (by decide), by rw [(fx 0).2.2]; exact r0, by rw [(fx 1).1, E 1 (by omega)]; exact i1, by rw [(fx 2).2.2]; exact r2, by rw [(fx 3).2.2]; exact r3, by rw [(fx 4).2.2]; exact r4⟩, ⟨f.kk kw (by decide), e4⟩, by rw [E 0 (by omega)]; exact RdS_w y f (fun a k z h => by have := hx a k z h; omega), by rw [E 58 (by omega), E 59 (by omega)]; exact ju, by rw [E 58 (by omega), E 59 (by omega)]; exact jp, tC, by rw [E 58 (by omega), E 59 (by omega), E 60 (by omega), E 61 (by omega), E 62 (by omega), E 63 (by omega)]; exact m, ?_⟩
  obtain ⟨s0, s1, s3, s4, qa⟩ := sl
  refine ⟨by rw [E 0 (by omega)]; exact s0, by rw [E 1 (by omega)]; exact s1, by rw [E 53 (by omega)]; exact s3, by rw [E 54 (by omega)]; exact s4, fun j => ?_⟩
  rw [E 58 (by omega), E 59 (by omega)]
  exact qa j
theorem ax_walk (hr : 8 ≤ r) (c : CR h v) (ax : AX v x rd tp wr wk C R A T p0 g w S U) (wb : WB S) (hk : -2147483648 ≤ k ∧ k < 2147483648) (hz : -9223372036854775808 ≤ z ∧ z < 9223372036854775808) (q1 : k < 0 ∨ U 9 w ≤ k ∨ U 18 (w * 12 + k) = -1 → Q (Sum.inl (some (vI (iI (-3))))) h)
    (q2 : ¬ (k < 0 ∨ U 9 w ≤ k ∨ U 18 (w * 12 + k) = -1) → ∀ h' v' S', CR h' v' → WGo w U (tW0 U w k z S) S' → (S' 69 0 = 0 ∨ S' 68 0 = 1) → (S' 68 0 = 0 ∨ S' 68 0 = 1) → WR S' → WB S' → AX v' x rd tp wr wk C R A T p0 g w S' U → hN v'.1 = hN v.1 → hS v'.1 = hS v.1 → KT v v' → Q (Sum.inl (some (vI (iI (if S' 68 0 = 1 then -2 else if S' 66 0 = 1 then S' 67 0 else -1))))) h') : Cl (r + 1) 23 [vR (some x), vI (iI k), vL (lI z)] h Q := by
  obtain ⟨⟨kx, r0, i1, r2, r3, r4⟩, ⟨kw, i4⟩, _, ⟨gx, ml, jd⟩, jp, _⟩ := id ax
  have ktw : ∀ {u : vT}, Fw (XW v wk) v u → KT v u := fun {u} f => KT_fw f (fun a k y _ => by
    rcases y with y | y
    · rw [y, kw]; omega
    · omega)
  have kxh := c.kk kx (by decide)
  have ku := gx.1.1.1
  have kuh := c.kk ku (by decide)
  obtain ⟨a1, k6, v6⟩ := gx.2.2.1.1
  have k6h := c.kk k6 (by decide)
  have qv := jp.2.1.2.1
  have b9 := QV_b qv (f := 9) (c := 12) rfl rfl rfl w
  have len : (vLs v (R 6)).length = (U 9 w).toNat := by rw [v6, rowL_len]
  rw [eX0_walk, sX0_walk_0, sX0_walk_1, sX0_walk_2, sX0_walk_3 kxh, c.rr kx rfl, r3, sX0_walk_6 kuh, c.rr ku rfl, a1, sX0_walk_9 k6h, v_size c k6, Kt_v, len, show (((U 9 w).toNat : Nat) : Int) = U 9 w by omega, sX0_walk_12, sX0_walk_13, i_sub1, sX0_walk_14, show (0 : Int32) = iI 0 from rfl, c_isIn hk (by omega) (by omega), Kt_v, sX0_walk_17]
  by_cases y : 0 ≤ k ∧ k ≤ U 9 w - 1
  · have k9 : k < U 9 w := by omega
    obtain ⟨km, _, _, _, _, _, _, _, r8⟩ := gx.2.2.1.2.2.2 k y.1 k9
    have kmh := c.kk km (by decide)
    have ge : (vLs v (R 6)).getD k.toNat none = some (A 1 k) := by rw [v6, rowL_get y.1 k9, Int.zero_add]
    rw [if_neg (by rw [bI_t y]; decide), sX0_walk_20, sX0_walk_21 kxh, c.rr kx rfl, r3, sX0_walk_24 kuh, c.rr ku rfl, a1, sX0_walk_27, sX0_walk_28 k6h, v_get c k6 y.1 (by rw [len]; omega), Kt_v, ge, sX0_walk_31 (by rw [kmh]; decide), sX0_walk_34 kmh, c.rr km rfl, r8, sX0_walk_37]
    by_cases y8 : U 18 (w * 12 + k) = -1
    · rw [y8, optA_n, if_neg (fun t => t rfl), sX0_walk_40, sX0_walk_42]
      exact q1 (Or.inr (Or.inr y8))
    · have q2 := q2 (by omega)
      obtain ⟨bA, b41, _⟩ := jp.1.2.2.1 k y.1 k9 y8
      have zg := jp.1.2.2.2.2 _ bA
      have kb := gx.kb bA
      rw [optA_s y8, if_pos (by simp), sX0_walk_43, sX0_walk_44 kxh, c.rr kx rfl, r4, sX0_walk_47, sX0_walk_48 kxh, c.rr kx rfl, r3, sX0_walk_51 kuh, c.rr ku rfl, a1, sX0_walk_54, sX0_walk_55 k6h, v_get c k6 y.1 (by rw [len]; omega), Kt_v, ge, sX0_walk_58 (by rw [kmh]; decide), sX0_walk_61 kmh, c.rr km rfl, r8, optA_s y8, sX0_walk_64, sX0_walk_65 (c.kk kw (by decide))]
      have kwh : hK h wk = 14 := c.kk kw (by decide)
      rw [eX5_go, sX5_go_0, sX5_go_1, sX5_go_2 kwh, sX5_go_5, sX5_go_6, sX5_go_7 (by simp only [hK_putI]; exact kwh), sX5_go_10, sX5_go_11, sX5_go_12 (by simp only [hK_putI, hK_putR]; exact kwh), sX5_go_15, sX5_go_16, sX5_go_17 (by simp only [hK_putI, hK_putR]; exact kwh), sX5_go_20, sX5_go_21, sX5_go_22 (by simp only [hK_putI, hK_putR, hK_putJ]; exact kwh), sX5_go_25, sX5_go_26]
      have c1 : CR (putI (putJ (putR (putR (putI h wk 0 0) wk 1 none) wk 2 none) wk 3 (lI z)) wk 4 0) (vpI (vpJ (vpR (vpR (vpI v wk 0 0) wk 1 none) wk 2 none) wk 3 (lI z)) wk 4 0) := CR_pI (n := 14) (CR_pJ (n := 14) (CR_pR (n := 14) (CR_pR (n := 14) (CR_pI c kw rfl) kw rfl) kw rfl) kw rfl) kw rfl
      have f1 : Fw (fun a _ => a = wk) v (vpI (vpJ (vpR (vpR (vpI v wk 0 0) wk 1 none) wk 2 none) wk 3 (lI z)) wk 4 0) := fwI (fwJ (fwR (fwR (fwI fw0))))
      have x1 : WV R A T w p0 U (S 58) (S 59) wk (fun _ => False) v (vpI (vpJ (vpR (vpR (vpI v wk 0 0) wk 1 none) wk 2 none) wk 3 (lI z)) wk 4 0) (up (up (up (up (up S 64 0 z) 65 0 0) 66 0 0) 68 0 0) 69 0 0) := by
        refine ⟨⟨⟨kw, ?_, ?_, ?_⟩, ?_, ?_, ?_, ?_, fun j => ?_, ?_, ?_⟩, JU_fr ax.2.2.2.1 f1 (fun a k t _ => Or.inr (Or.inl (Or.inl (by rw [t]; exact kw)))), fun _ t => t.elim, fun _ t => t.elim, f1.mono (fun a k t => Or.inl t), rfl, rfl⟩
        · rw [vpI_1, hI_putI, if_neg (by omega), vpJ_1, hI_putJ, vpR_1, hI_putR, vpR_1, hI_putR, vpI_1, hI_putI, if_pos ⟨rfl, rfl⟩]
          unfold hwO
          simp only [up_eq, true_and, false_and, and_true, and_false, and_self, if_true, if_false, eq_self, Nat.reduceEqDiff, reduceIte]
          rfl
        · rw [vpI_1, hJ_putI, vpJ_1, hJ_putJ, if_pos ⟨rfl, rfl⟩]
          simp only [up_eq, true_and, false_and, and_true, and_false, and_self, if_true, if_false, eq_self, Nat.reduceEqDiff, reduceIte]
        · rw [vpI_1, hI_putI, if_pos ⟨rfl, rfl⟩]
          simp only [up_eq, true_and, false_and, and_true, and_false, and_self, if_true, if_false, eq_self, Nat.reduceEqDiff, reduceIte]
          rfl
        · simp only [up_eq, true_and, false_and, and_true, and_false, and_self, if_true, if_false, eq_self, Nat.reduceEqDiff, reduceIte]; omega
        · simp only [up_eq, true_and, false_and, and_true, and_false, and_self, if_true, if_false, eq_self, Nat.reduceEqDiff, reduceIte]; omega
        · simp only [up_eq, true_and, false_and, and_true, and_false, and_self, if_true, if_false, eq_self, Nat.reduceEqDiff, reduceIte]; omega
        · simp only [up_eq, true_and, false_and, and_true, and_false, and_self, if_true, if_false, eq_self, Nat.reduceEqDiff, reduceIte]; omega
        · simp only [up_eq, true_and, false_and, and_true, and_false, and_self, if_true, if_false, eq_self, Nat.reduceEqDiff, reduceIte]; exact wb.2.1 j
        · simp only [up_eq, true_and, false_and, and_true, and_false, and_self, if_true, if_false, eq_self, Nat.reduceEqDiff, reduceIte]; exact wb.2.2
        · simp only [up_eq, true_and, false_and, and_true, and_false, and_self, if_true, if_false, eq_self, Nat.reduceEqDiff, reduceIte]; exact Or.inl trivial
      have eW : tPush U (U 18 (w * 12 + k)) (up (up (up (up (up S 64 0 z) 65 0 0) 66 0 0) 68 0 0) 69 0 0) = tW0 U w k z S := rfl
      have es0 : ∀ f, nWk f → up (up (up (up (up S 64 0 z) 65 0 0) 66 0 0) 68 0 0) 69 0 0 f = S f := fun f hf => by
        unfold nWk at hf
        rw [up_n (by omega), up_n (by omega), up_n (by omega), up_n (by omega), up_n (by omega)]
      have z66 : up (up (up (up (up S 64 0 z) 65 0 0) 66 0 0) 68 0 0) 69 0 0 66 0 = 0 := by simp only [up_eq, true_and, false_and, and_true, and_false, and_self, if_true, if_false, eq_self, Nat.reduceEqDiff, reduceIte]
      have z68 : up (up (up (up (up S 64 0 z) 65 0 0) 66 0 0) 68 0 0) 69 0 0 68 0 = 0 := by simp only [up_eq, true_and, false_and, and_true, and_false, and_self, if_true, if_false, eq_self, Nat.reduceEqDiff, reduceIte]
      have z69 : up (up (up (up (up S 64 0 z) 65 0 0) 66 0 0) 68 0 0) 69 0 0 69 0 = 0 := by simp only [up_eq, true_and, false_and, and_true, and_false, and_self, if_true, if_false, eq_self, Nat.reduceEqDiff, reduceIte]
      generalize up (up (up (up (up S 64 0 z) 65 0 0) 66 0 0) 68 0 0) 69 0 0 = S1 at *
      generalize (vpI (vpJ (vpR (vpR (vpI v wk 0 0) wk 1 none) wk 2 none) wk 3 (lI z)) wk 4 0) = v1 at *
      generalize (putI (putJ (putR (putR (putI h wk 0 0) wk 1 none) wk 2 none) wk 3 (lI z)) wk 4 0) = h1 at *
      rw [sX5_go_27 (c1.kk (x1.gx.kb bA) (by decide))]
      refine BWC_all jp r h1 v1 S1 (fun _ => False) (U 18 (w * 12 + k)) 0 _ c1 x1 ⟨z66, z68, z69, by omega, by omega⟩ bA (by omega) (fun i hi a t => ?_) (fun h2 v2 S2 P2 c2 x2 mo wg be => ?_)
      · obtain ⟨m, a⟩ := a
        cases m with
        | zero =>
          have e2 : U 18 (w * 12 + k) = i := a
          rw [← e2] at t
          omega
        | succ m => exact a.1 b41
      · have kw2 := x2.kw
        have es2 : ∀ f, nWk f → S2 f = S f := fun f hf => by
          have hg := hf
          unfold nWk at hg
          rw [wg.o hf, tPush_o (by omega)]
          exact es0 f hf
        rw [eW] at wg
        obtain ⟨⟨_, i02, _, i42⟩, t1, t2, b65, b66, b74, b67, b68⟩ := id x2.1
        rw [Kt_0, sX5_go_30, sX5_go_31 (c2.kk kw2 (by decide)), c2.ii kw2 rfl, sX5_go_34, sX5_go_35, i_4]
        rcases be with be | ⟨b68', b69, kf, ⟨b70, _⟩, b71, bz⟩
        · have ax2 : AX v2 x rd tp wr wk C R A T p0 g w S2 U := AX_w ax x2.2.2.2.2.1 x2.2.1 i42 es2
          have := q2 h2 v2 S2 c2 wg (Or.inr be.1) (Or.inr be.1) (x2.wr be.2) ⟨b65, b74, b67⟩ ax2 x2.2.2.2.2.2.1 x2.2.2.2.2.2.2 (ktw x2.2.2.2.2.1)
          rw [if_pos be.1] at this
          rw [if_neg (fun t => t ((how_eq x2.1 (by omega)).mpr ((hwO_4 x2.1).mpr be.1))), sX5_go_38, sX5_go_40, sX5_go_62, Kt_v, sX0_walk_68]
          exact this
        · have lv := WG_leave (U := U) (w := w) (n := 0) (b := U 18 (w * 12 + k)) (x2.wr (by omega)) b69 (by omega) b68' b67 b70 bA bz b71 (by omega) (by omega) (by omega)
          have el : tLv U w (U 18 (w * 12 + k)) 0 (up S2 69 0 0) = up S2 69 0 0 := by
            unfold tLv
            rw [if_neg (by omega), if_neg (by omega), if_neg (by omega), if_neg (by omega), if_neg (by omega)]
          rw [el] at lv
          have x3 : WV R A T w p0 U (S 58) (S 59) wk P2 v v2 (up S2 69 0 0) := WV_cg x2 (fun f hf => up_n (by omega))
          have E : ∀ f, f ≠ 69 → up S2 69 0 0 f = S2 f := fun f hf => up_n hf
          have ax2 : AX v2 x rd tp wr wk C R A T p0 g w (up S2 69 0 0) U := AX_w ax x2.2.2.2.2.1 x2.2.1 (by rw [E 65 (by decide)]; exact i42) (fun f hf => by
            rw [E f (by unfold nWk at hf; omega)]
            exact es2 f hf)
          have := q2 h2 v2 (up S2 69 0 0) c2 (wg.tr lv) (Or.inl up_s) (Or.inl (by rw [E 68 (by decide)]; exact b68')) (x3.wr (by rw [up_s]; omega)) ⟨by rw [E 65 (by decide)]; exact b65, by rw [E 74 (by decide)]; exact b74, by rw [E 67 (by decide)]; exact b67⟩ ax2 x2.2.2.2.2.2.1 x2.2.2.2.2.2.2 (ktw x2.2.2.2.2.1)
          rw [E 68 (by decide), E 66 (by decide), E 67 (by decide), if_neg (by omega)] at this
          rw [if_pos (fun t => by have := (hwO_4 x2.1).mp ((how_eq x2.1 (by omega)).mp t); omega), sX5_go_43, sX5_go_44 (c2.kk kw2 (by decide)), c2.ii kw2 rfl, sX5_go_47, sX5_go_48, i_1]
          by_cases y1 : S2 66 0 = 1
          · obtain ⟨h1a, h1b, h1c⟩ := t1 y1
            rw [if_pos y1] at this
            obtain ⟨ka, ia, _⟩ := x2.gx.1.1.2.2.2.2 (S2 67 0) h1b h1c
            rw [if_neg (fun t => t ((how_eq x2.1 (by omega)).mpr ((hwO_1 x2.1).mpr ⟨b68', y1⟩))), sX5_go_51, sX5_go_52 (c2.kk kw2 (by decide)), c2.rr kw2 rfl, h1a, sX5_go_55 (c2.kk ka (by decide)), c2.ii ka rfl, ia, sX5_go_58, sX5_go_62, Kt_v, sX0_walk_68]
            exact this
          · rw [if_neg y1] at this
            rw [if_pos (fun t => y1 ((hwO_1 x2.1).mp ((how_eq x2.1 (by omega)).mp t)).2), sX5_go_61, sX5_go_62, Kt_v, sX0_walk_68]
            exact this
  · rw [if_pos (by rw [bI_f y]; rfl), sX0_walk_40, sX0_walk_42]
    exact q1 (by omega)
/-- the twin's cells are none of the reader's -/
theorem RdS_t (y : RdS v rd tp wr C t) (f : Fw X v v') (hx : ∀ a k, X a k → a < hN v.1 → hK v.1 a = 15 ∨ hK v.1 a = 40 ∨ hK v.1 a = 42 ∨ hK v.1 a = 43) : RdS v' rd tp wr C t := RdS_w y f (fun a k z h => by have := hx a k z h; omega)
end AXW
