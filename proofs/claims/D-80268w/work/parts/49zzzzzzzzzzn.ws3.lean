/-! COMPONENT, 155: walks: call, loop *-/
section WS3
variable {R : Nat → Nat} {A : Nat → Int → Nat} {T : Nat → Nat} {w p0 n s b d m : Int} {g : Int → Int} {U S S' S1 S0 : tSt} {c l : Int → Int} {wk r : Nat} {P P0 : Int → Prop} {v0 v v' : vT} {h : am_H} {Q : am_O → am_H → Prop} {l2 l3 l4 : Option am_V}
/-- statements lie apart -/
theorem A2_ij (j : JP w g U c l) (gx : GX R A T w p0 v U) (hs : As w U s) (hd : As w U d) (e : A 2 s = A 2 d) : s = d := by
  have a := (gx.2.2.2.2.1 s hs).1.2.1
  have b := (gx.2.2.2.2.1 d hd).1.2.1
  rw [e, b] at a
  have n1 := As_n j hs
  have n2 := As_n j hd
  have w0 := j.2.1.2.2.2.1
  have w1 := j.2.1.2.2.2.2.1
  have := (iI_eq (by omega) (by omega) (by omega) (by omega)).mp a
  omega
/-- how is set to what it is -/
theorem WV_same {y : Int32} (x : WV R A T w p0 U c l wk P v0 v S) (e : hI v.1 wk 0 = y) : WV R A T w p0 U c l wk P v0 (vpI v wk 0 y) S := by
  obtain ⟨⟨⟨kw, i0, j3, i4⟩, t⟩, wu⟩ := x
  refine ⟨⟨⟨kw, ?_, j3, ?_⟩, t⟩, WU_wk wu kw (fwI fw0) rfl rfl rfl⟩
  · rw [vpI_1, hI_putI, if_pos ⟨rfl, rfl⟩, ← e]; exact i0
  · rw [vpI_1, hI_putI, if_neg (by omega)]; exact i4
/-- how is set to on -/
theorem WV_on (x : WV R A T w p0 U c l wk P v0 v S) (h68 : S 68 0 = 0) : WV R A T w p0 U c l wk P v0 (vpI v wk 0 0) (up S 66 0 0) := by
  have b67 := x.1.2.2.2.2.2.2.1
  refine WV_set x (fwI fw0) rfl rfl (up_n (by decide)) (up_n (by decide)) (up_n (by decide)) ?_ ?_ ?_ ?_ rfl ?_ ?_ ?_
  · simp only [up_eq, true_and, false_and, and_true, and_false, and_self, if_true, if_false, eq_self, Nat.reduceEqDiff, reduceIte]; omega
  · simp only [up_eq, true_and, false_and, and_true, and_false, and_self, if_true, if_false, eq_self, Nat.reduceEqDiff, reduceIte]; exact b67
  · simp only [up_eq, true_and, false_and, and_true, and_false, and_self, if_true, if_false, eq_self, Nat.reduceEqDiff, reduceIte]; exact h68
  · rw [vpI_1, hI_putI, if_pos ⟨rfl, rfl⟩]
    unfold hwO
    simp only [up_eq, true_and, false_and, and_true, and_false, and_self, if_true, if_false, eq_self, Nat.reduceEqDiff, reduceIte]
    rw [h68]
    rfl
  · rw [vpI_1, hI_putI, if_neg (by omega)]
  · simp only [up_eq, true_and, false_and, and_true, and_false, and_self, if_true, if_false, eq_self, Nat.reduceEqDiff, reduceIte]; omega
  · simp only [up_eq, true_and, false_and, and_true, and_false, and_self, if_true, if_false, eq_self, Nat.reduceEqDiff, reduceIte]; omega
theorem SE_drt (h68 : S1 68 0 = 0) (h69 : S1 69 0 = n) (kf : KF n S S1) : SE n S (tDrT U w m S1) := by
  refine Or.inr ⟨?_, ?_, kf.tr (KF.cg (fun f hf => tDrT_o f (by omega) (by omega) (by omega)))⟩
  · rw [tDrT_o 68 (by decide) (by decide) (by decide)]; exact h68
  · rw [tDrT_o 69 (by decide) (by decide) (by decide)]; exact h69
theorem sw_31 (bw : BWC r R A T w p0 g U c l wk v0) (j : JP w g U c l) (hs : As w U s) (hr : 9 - g (U 22 s) ≤ (r + 1 : Nat)) (e : U 20 s = 1) : SWN (r + 1) 196 R A T w p0 g U c l wk v0 s := by
  intro h v S P n Q cr x hz pa q
  have kw := x.kw
  have qv := j.2.1.2.1
  have qw := j.2.1.2.2.1
  have zg := j.1.2.2.2.2 _ (j.pw.1 s hs)
  have f1 := (x.gx.fs hs).2.2.1
  obtain ⟨k1, _, k6, k7⟩ := f1 e
  rw [oc_s hs e] at k6
  have mb := mO_b (U := U) (w := w) (x := U 25 s) qw.2.1
  have tb : tBeg U w s S = (if mO U w (U 25 s) = -1 then S else if U 27 s ≠ -1 ∧ U 14 (w * 12 + mO U w (U 25 s)) ≠ 0 then (if dr2 S = 1 then tPush U (U 27 s) (tDrwS S) else tDrT U w (mO U w (U 25 s)) (tDrwS S)) else tDrT U w (mO U w (U 25 s)) S) := by
    unfold tBeg
    rw [if_pos e]
  rw [tb] at q
  rw [eX15_walk, sX15_walk_0, sX15_walk_1 (cr.kk k1 (by decide)), cr.rr k1 rfl, k6, sX15_walk_4]
  by_cases zm : mO U w (U 25 s) = -1
  · rw [if_pos zm] at q
    rw [zm, optA_n, if_neg (fun t => t rfl), sX15_walk_7]
    exact q h v S P cr x (fun _ t => t) WGo.rf (Or.inr ⟨hz.2.1, hz.2.2.1, KF.rf⟩)
  · rw [if_neg zm] at q tb
    have m0 : 0 ≤ mO U w (U 25 s) := by omega
    have m1 := mb.2.resolve_right zm
    obtain ⟨km, _, _, i3, _⟩ := x.gx.2.2.1.2.2.2 _ m0 m1
    rw [optA_s zm] at k6
    -- the call itself
    have cal : ∀ (h1 : am_H) (v1 : vT) (S1 : tSt) (P1 : Int → Prop), CR h1 v1 → WV R A T w p0 U c l wk P1 v0 v1 S1 → (∀ k, P k → P1 k) → S1 66 0 = 0 → S1 68 0 = 0 → S1 69 0 = n → KF n S S1 → WGo w U (tBeg U w s S) (tDrT U w (mO U w (U 25 s)) S1) → Rn (r + 1) 196 62 [some (vR (some (A 2 s))), some (vR (some wk))] [] h1 Q := fun h1 v1 S1 P1 c1 x1 mo z66 z68 z69 kf wg => by
      have kw1 := x1.kw
      have f1 := (x1.gx.fs hs).2.2.1
      obtain ⟨k1, _, k6, k7⟩ := f1 e
      rw [oc_s hs e, optA_s zm] at k6
      rw [sX15_walk_62, sX15_walk_63 (c1.kk kw1 (by decide)), c1.ii kw1 rfl, sX15_walk_66, i_0, if_neg (fun t => t ((how_eq x1.1 (by omega)).mpr ((hwO_0 x1.1).mpr ⟨z68, z66⟩))), sX15_walk_69, sX15_walk_70, sX15_walk_71 (c1.kk k1 (by decide)), c1.rr k1 rfl, k6, sX15_walk_74 (c1.kk kw1 (by decide))]
      refine c_call1 qv qw c1 x1 z68 z66 m0 m1 (fun h2 v2 c2 x2 => ?_)
      rw [Kt_0, sX15_walk_77]
      rw [tb] at wg
      exact q h2 v2 _ P1 c2 x2 mo wg (SE_drt z68 z69 kf)
    rw [optA_s zm, if_pos (by simp), sX15_walk_8, sX15_walk_9 (cr.kk k1 (by decide)), cr.rr k1 rfl, k7, sX15_walk_12]
    by_cases z7 : U 27 s = -1
    · rw [z7, optA_n, if_pos rfl]
      refine cal h v S P cr x (fun _ t => t) hz.1 hz.2.1 hz.2.2.1 KF.rf ?_
      rw [tb, if_neg (fun t => t.1 z7)]
      exact WGo.rf
    · rw [optA_s z7, if_neg (by simp), sX15_walk_15, sX15_walk_16 (cr.kk k1 (by decide)), cr.rr k1 rfl, k6, sX15_walk_19 (cr.kk km (by decide)), cr.ii km rfl, i3, sX15_walk_22]
      by_cases zf : U 14 (w * 12 + mO U w (U 25 s)) ≠ 0
      · rw [if_pos ⟨z7, zf⟩] at q tb
        rw [if_neg (by rw [bI_t zf]; decide), sX15_walk_25, sX15_walk_26, sX15_walk_27 (cr.kk kw (by decide)), i_2]
        obtain ⟨y, hy, ey, y0, y1⟩ := dr2_i (S := S)
        rw [ey] at q tb
        have dz : ∀ f, f ≠ 64 → tDrwS S f = S f := fun f hf => tDrwS_o hf
        have hz1 : tDrwS S 66 0 = 0 ∧ tDrwS S 68 0 = 0 ∧ tDrwS S 69 0 = n ∧ (0 ≤ n ∧ n ≤ g (U 22 s)) := by
          rw [dz 66 (by decide), dz 68 (by decide), dz 69 (by decide)]
          exact hz
        have kf1 : KF n S (tDrwS S) := KF.cg (fun f hf => dz f (by omega))
        refine wk_draw cr x (by omega) (fun h1 v1 c1 x1 => ?_)
        rw [Kt_v, hy, sX15_walk_30, sX15_walk_31, i_1]
        by_cases zy : y = 1
        · rw [if_pos zy] at q tb
          have bd : bo w U s (U 27 s) := ((j.1.2.1 s hs).1 z7).1
          have h41 : U 41 (U 27 s) = 1 := by
            have := ((j.1.1 _ bd.1).2 bd.2.2).2
            unfold rsO at this
            rw [bd.2.1, e] at this
            omega
          have f1 := (x1.gx.fs hs).2.2.1
          obtain ⟨k1', _, _, k7'⟩ := f1 e
          rw [if_neg (fun t => t (by rw [zy])), sX15_walk_34, sX15_walk_35 (c1.kk k1' (by decide)), c1.rr k1' rfl, k7', optA_s z7, sX15_walk_38, sX15_walk_39 (c1.kk (x1.gx.kb bd.1) (by decide))]
          refine blk_go bw j hs hr bd c1 x1 hz1 pa (by omega) (fun h2 v2 S2 P2 c2 x2 mo wg be => ?_)
          have kw2 := x2.kw
          rw [Kt_0, sX15_walk_42, sX15_walk_43, sX15_walk_44 (c2.kk kw2 (by decide)), c2.ii kw2 rfl, sX15_walk_47, sX15_walk_48, i_2]
          rcases be with be | ⟨b68, b69, kf, ⟨b70, _⟩, b71, bz⟩
          · have h4 := (hwO_4 x2.1).mpr be.1
            rw [if_pos (fun t => by have := (how_eq x2.1 (by omega)).mp t; omega), sX15_walk_55, sX15_walk_56 (c2.kk kw2 (by decide)), c2.ii kw2 rfl, sX15_walk_59 (c2.kk kw2 (by decide))]
            have x3 := WV_same x2 (rfl : hI v2.1 wk 0 = hI v2.1 wk 0)
            have c3 : CR (putI h2 wk 0 (hI v2.1 wk 0)) (vpI v2 wk 0 (hI v2.1 wk 0)) := CR_pI c2 kw2 rfl
            rw [sX15_walk_62, sX15_walk_63 (c3.kk x3.kw (by decide)), c3.ii x3.kw rfl, sX15_walk_66, i_0, if_pos (fun t => by have := (how_eq x3.1 (by omega)).mp t; omega), sX15_walk_77]
            exact q _ _ S2 P2 c3 x3 mo wg (Or.inl be)
          · have lv := WG_leave (U := U) (w := w) (n := n) (b := U 27 s) (x2.wr (by omega)) b69 (by omega) b68 x2.1.2.2.2.2.2.2.1 b70 bd.1 bz b71 (fun _ => by rw [bd.2.1]; exact zm) (by omega) (by omega)
            have el : tLv U w (U 27 s) n (up S2 69 0 n) = if S2 66 0 = 0 ∨ S2 66 0 = 3 then tDrT U w (mO U w (U 25 s)) (up (up S2 69 0 n) 66 0 0) else up S2 69 0 n := by
              unfold tLv tLv1
              rw [if_pos h41, bd.2.1, up_n (by decide)]
            rw [el] at lv
            have x2' : WV R A T w p0 U c l wk P2 v0 v2 (up S2 69 0 n) := WV_cg x2 (fun f hf => up_n (by omega))
            have kf2 : KF n S (up S2 69 0 n) := (kf1.tr kf).tr (KF.cg (fun f hf => up_n (by omega)))
            have g68 : up S2 69 0 n 68 0 = 0 := by rw [up_n (by decide)]; exact b68
            have on : ∀ z : S2 66 0 = 0 ∨ S2 66 0 = 3, CR (putI h2 wk 0 0) (vpI v2 wk 0 0) → Rn (r + 1) 196 62 [some (vR (some (A 2 s))), some (vR (some wk))] [] (putI h2 wk 0 0) Q := fun z c3 => by
              rw [if_pos z] at lv
              refine cal _ _ _ P2 c3 (WV_on x2' g68) mo ?_ ?_ ?_ ?_ ?_
              · rw [up_s]
              · rw [up_n (by decide)]; exact g68
              · rw [up_n (by decide), up_s]
              · exact kf2.tr (KF.cg (fun f hf => up_n (by omega)))
              · rw [tb]; exact wg.tr lv
            by_cases y3 : S2 66 0 = 3
            · rw [if_neg (fun t => t ((how_eq x2.1 (by omega)).mpr ((hwO_2 x2.1).mpr ⟨b68, y3⟩))), sX15_walk_51, sX15_walk_52, sX15_walk_59 (c2.kk kw2 (by decide))]
              exact on (Or.inr y3) (CR_pI c2 kw2 rfl)
            · rw [if_pos (fun t => y3 ((hwO_2 x2.1).mp ((how_eq x2.1 (by omega)).mp t)).2), sX15_walk_55, sX15_walk_56 (c2.kk kw2 (by decide)), c2.ii kw2 rfl, sX15_walk_59 (c2.kk kw2 (by decide))]
              by_cases y0 : S2 66 0 = 0
              · have hh : hI v2.1 wk 0 = 0 := (how_eq x2.1 (by omega)).mpr ((hwO_0 x2.1).mpr ⟨b68, y0⟩)
                rw [hh]
                exact on (Or.inl y0) (CR_pI c2 kw2 rfl)
              · rw [if_neg (by omega)] at lv
                have x3 := WV_same x2' (rfl : hI v2.1 wk 0 = hI v2.1 wk 0)
                have c3 : CR (putI h2 wk 0 (hI v2.1 wk 0)) (vpI v2 wk 0 (hI v2.1 wk 0)) := CR_pI c2 kw2 rfl
                rw [sX15_walk_62, sX15_walk_63 (c3.kk x3.kw (by decide)), c3.ii x3.kw rfl, sX15_walk_66, i_0, if_pos (fun t => y0 (by
                  have := ((hwO_0 x3.1).mp ((how_eq x3.1 (by omega)).mp t)).2
                  rw [up_n (by decide)] at this
                  exact this)), sX15_walk_77]
                exact q _ _ _ P2 c3 x3 mo (wg.tr lv) (Or.inr ⟨g68, up_s, kf2⟩)
        · rw [if_neg zy] at tb
          rw [if_pos (fun t => zy ((iI_eq (by omega) (by omega) (by omega) (by omega)).mp t))]
          refine cal h1 v1 _ P c1 x1 (fun _ t => t) hz1.1 hz1.2.1 hz1.2.2.1 kf1 ?_
          rw [tb]
          exact WGo.rf
      · rw [if_pos (by rw [bI_f zf]; rfl)]
        refine cal h v S P cr x (fun _ t => t) hz.1 hz.2.1 hz.2.2.1 KF.rf ?_
        rw [tb, if_neg (fun t => zf t.2)]
        exact WGo.rf
/-- a turn of a loop -/
def tTurn (U : tSt) (s : Int) (S : tSt) : tSt := if U 20 s = 6 then tPush U (U 27 s) S else if dr2 S = 1 then tPush U (U 27 s) (tDrwS S) else tDrwS S
theorem sw_lp (bw : BWC r R A T w p0 g U c l wk v0) (j : JP w g U c l) (hs : As w U s) (hr : 9 - g (U 22 s) ≤ (r + 1 : Nat)) (e : U 20 s = 5 ∨ U 20 s = 6) (gn : 0 ≤ n ∧ n ≤ g (U 22 s)) {S0 X : tSt} {P0 : Int → Prop}
    (q : ∀ h' v' S' P', CR h' v' → WV R A T w p0 U c l wk P' v0 v' S' → (∀ k, P0 k → P' k) → WGo w U X S' → SE n S0 S' → Q (Sum.inl none) h') : ∀ (k : Nat) (h : am_H) (v : vT) (S : tSt) (P : Int → Prop), 300 - S 65 0 < k → CR h v → WV R A T w p0 U c l wk P v0 v S → (S 66 0 = 0 ∧ S 68 0 = 0 ∧ S 69 0 = n) → PAn w U P (U 22 s) → (∀ k, P0 k → P k) → WGo w U X (tTurn U s S) → KF n S0 S →
    Rn (r + 1) 199 2 [some (vR (some (A 2 s))), some (vR (some wk)), some (vI 1)] [] h Q := by
  have bd := bo27 j hs (by omega)
  have zg := j.1.2.2.2.2 _ (j.pw.1 s hs)
  have h41 : U 41 (U 27 s) = 4 := by
    have := ((j.1.1 _ bd.1).2 bd.2.2).2
    unfold rsO at this
    rw [bd.2.1] at this
    omega
  -- no more turns
  have stop : ∀ (h1 : am_H) (v1 : vT) (S1 : tSt) (P1 : Int → Prop), CR h1 v1 → WV R A T w p0 U c l wk P1 v0 v1 S1 → (∀ k, P0 k → P1 k) → WGo w U X S1 → SE n S0 S1 → Rn (r + 1) 199 2 [some (vR (some (A 2 s))), some (vR (some wk)), some (vI 0)] [] h1 Q := fun h1 v1 S1 P1 c1 x1 mo wg se => by
    rw [sX18_walk_2, sX18_walk_3, if_pos rfl, sX18_walk_90]
    exact q h1 v1 S1 P1 c1 x1 mo wg se
  -- it does not go on
  have hold : ∀ (h1 : am_H) (v1 : vT) (S1 : tSt) (P1 : Int → Prop), CR h1 v1 → WV R A T w p0 U c l wk P1 v0 v1 S1 → (∀ k, P0 k → P1 k) → WGo w U X S1 → SE n S0 S1 → ¬ (S1 68 0 = 0 ∧ S1 66 0 = 0) → Rn (r + 1) 199 63 [some (vR (some (A 2 s))), some (vR (some wk)), some (vI 1)] [] h1 Q := fun h1 v1 S1 P1 c1 x1 mo wg se z => by
    rw [sX18_walk_63, sX18_walk_64, if_neg (by decide), sX18_walk_67, sX18_walk_68 (c1.kk x1.kw (by decide)), wk_goes c1 x1.1, Kt_v, sX18_walk_71, if_pos (by rw [bI_f z]; rfl), sX18_walk_85, sX18_walk_86, sX18_walk_87]
    exact stop h1 v1 S1 P1 c1 x1 mo wg se
  intro k
  induction k with
  | zero =>
    intro h v S P hk cr x hz pa mo wg kf
    have := x.1.2.2.2.1
    omega
  | succ k ih =>
    intro h v S P hk cr x hz pa mo wg kf
    have body : ∀ (h1 : am_H) (v1 : vT) (Sx : tSt), CR h1 v1 → WV R A T w p0 U c l wk P v0 v1 Sx → (Sx 66 0 = 0 ∧ Sx 68 0 = 0 ∧ Sx 69 0 = n) → S 65 0 ≤ Sx 65 0 → KF n S0 Sx → WGo w U X (tPush U (U 27 s) Sx) → Rn (r + 1) 199 32 [some (vR (some (A 2 s))), some (vR (some wk)), some (vI 1)] [] h1 Q := fun h1 v1 Sx c1 x1 z1 l65 kf1 wg1 => by
      have f5 := (x1.gx.fs hs).2.2.2.2.2.1
      obtain ⟨k1, _, k3⟩ := f5 e
      rw [sX18_walk_32, sX18_walk_33 (c1.kk k1 (by decide)), c1.rr k1 rfl, k3, sX18_walk_36, sX18_walk_37 (c1.kk (x1.gx.kb bd.1) (by decide))]
      refine blk_go bw j hs hr bd c1 x1 ⟨z1.1, z1.2.1, z1.2.2, gn⟩ pa (by omega) (fun h2 v2 S2 P2 c2 x2 mo2 wg2 be => ?_)
      have m65 := wg2.mm
      rw [tPush_o (f := 65) (by omega)] at m65
      have kw2 := x2.kw
      have mo3 : ∀ k, P0 k → P2 k := fun k hk => mo2 k (mo k hk)
      have wg3 := wg1.tr wg2
      rw [Kt_0, sX18_walk_40, sX18_walk_41 (c2.kk kw2 (by decide)), c2.ii kw2 rfl, sX18_walk_44, sX18_walk_45, i_3]
      rcases be with be | ⟨b68, b69, kf2, ⟨b70, _⟩, b71, bz⟩
      · rw [if_pos (fun t => by have := (hwO_3 x2.1).mp ((how_eq x2.1 (by omega)).mp t); omega)]
        exact hold h2 v2 S2 P2 c2 x2 mo3 wg3 (Or.inl be) (by omega)
      · have lv := WG_leave (U := U) (w := w) (n := n) (b := U 27 s) (x2.wr (by omega)) b69 (by omega) b68 x2.1.2.2.2.2.2.2.1 b70 bd.1 bz b71 (by omega) (fun _ => by rw [bd.2.1]; exact bd.1) (by omega)
        have el : tLv U w (U 27 s) n (up S2 69 0 n) = tLv4 U s (up S2 69 0 n) := by
          unfold tLv
          rw [if_neg (by omega), if_pos h41, bd.2.1]
        rw [el] at lv
        unfold tLv4 at lv
        have e66 : up S2 69 0 n 66 0 = S2 66 0 := by rw [up_n (by decide)]
        have e67 : up S2 69 0 n 67 0 = S2 67 0 := by rw [up_n (by decide)]
        have e65 : up S2 69 0 n 65 0 = S2 65 0 := by rw [up_n (by decide)]
        have e68 : up S2 69 0 n 68 0 = 0 := by rw [up_n (by decide)]; exact b68
        rw [e66, e67, e65] at lv
        have x3 : WV R A T w p0 U c l wk P2 v0 v2 (up S2 69 0 n) := WV_cg x2 (fun f hf => up_n (by omega))
        have kf3 : KF n S0 (up S2 69 0 n) := (kf1.tr kf2).tr (KF.cg (fun f hf => up_n (by omega)))
        have se3 : SE n S0 (up S2 69 0 n) := Or.inr ⟨e68, up_s, kf3⟩
        by_cases y2 : S2 66 0 = 2
        · obtain ⟨t1, t2⟩ := x2.1.2.2.1 y2
          rw [if_neg (fun t => t ((how_eq x2.1 (by omega)).mpr ((hwO_3 x2.1).mpr ⟨b68, y2⟩))), sX18_walk_48, sX18_walk_49 (c2.kk kw2 (by decide)), c2.rr kw2 rfl, t1, sX18_walk_52, sX18_walk_53]
          by_cases ys : S2 67 0 = s
          · rw [if_pos ⟨y2, ys⟩] at lv
            rw [if_neg (fun t => t (by rw [ys])), sX18_walk_56, sX18_walk_57, sX18_walk_58 (c2.kk kw2 (by decide)), sX18_walk_61, sX18_walk_62, sX18_walk_63, sX18_walk_64, if_pos rfl, sX18_walk_85, sX18_walk_86, sX18_walk_87]
            exact stop _ _ _ P2 (CR_pI c2 kw2 rfl) (WV_on x3 e68) mo3 (wg3.tr lv) (Or.inr ⟨by rw [up_n (by decide)]; exact e68, by rw [up_n (by decide), up_s], kf3.tr (KF.cg (fun f hf => up_n (by omega)))⟩)
          · rw [if_neg (fun t => ys t.2), if_neg (by omega)] at lv
            rw [if_pos (fun t => ys (A2_ij j x2.gx t2 hs (Option.some.inj t)))]
            exact hold h2 v2 _ P2 c2 x3 mo3 (wg3.tr lv) se3 (by omega)
        · rw [if_neg (fun t => y2 t.1)] at lv
          rw [if_pos (fun t => y2 ((hwO_3 x2.1).mp ((how_eq x2.1 (by omega)).mp t)).2)]
          by_cases y0 : S2 66 0 = 0
          · rw [if_pos y0] at lv
            rw [sX18_walk_63, sX18_walk_64, if_neg (by decide), sX18_walk_67, sX18_walk_68 (c2.kk kw2 (by decide)), wk_goes c2 x2.1, Kt_v, sX18_walk_71, if_neg (by rw [bI_t ⟨b68, y0⟩]; decide), sX18_walk_74, sX18_walk_75 (c2.kk kw2 (by decide))]
            refine wk_step c2 x3 e68 (fun hz3 h4 v4 c4 x4 => ?_) (fun hz3 h4 v4 c4 x4 => ?_)
            · rw [e65] at hz3
              rw [if_pos hz3] at lv
              rw [Kt_v, sX18_walk_78, if_pos rfl, sX18_walk_85, sX18_walk_86, sX18_walk_87]
              refine stop h4 v4 _ P2 c4 x4 mo3 (wg3.tr lv) (Or.inl ⟨?_, ?_⟩)
              · unfold tStpS
                simp only [up_eq, true_and, false_and, and_true, and_false, and_self, if_true, if_false, eq_self, Nat.reduceEqDiff, reduceIte]
                rw [if_pos hz3]
              · rw [tStpS_o (by decide) (by decide), up_s]
                omega
            · rw [e65] at hz3
              rw [if_neg hz3] at lv
              rw [Kt_v, sX18_walk_78, if_neg (by decide), sX18_walk_81, sX18_walk_82, sX18_walk_86, sX18_walk_87]
              have o : ∀ f, f ≠ 65 → f ≠ 68 → tStpS (up S2 69 0 n) f = up S2 69 0 n f := fun f h1 h2 => tStpS_o h1 h2
              have f65 : tStpS (up S2 69 0 n) 65 0 = S2 65 0 + 1 := by
                unfold tStpS
                simp only [up_eq, true_and, false_and, and_true, and_false, and_self, if_true, if_false, eq_self, Nat.reduceEqDiff, reduceIte]
                rw [if_neg hz3]
              refine ih h4 v4 (tStpS (up S2 69 0 n)) P2 (by rw [f65]; omega) c4 x4 ⟨?_, ?_, ?_⟩ (fun k hk a b => mo2 _ (pa k hk a b)) mo3 (wg3.tr lv) (kf3.tr (KF.cg (fun f hf => o f (by omega) (by omega))))
              · rw [o 66 (by decide) (by decide), e66]; exact y0
              · unfold tStpS
                simp only [up_eq, true_and, false_and, and_true, and_false, and_self, if_true, if_false, eq_self, Nat.reduceEqDiff, reduceIte]
                rw [if_neg hz3]
              · rw [o 69 (by decide) (by decide), up_s]
          · rw [if_neg y0] at lv
            exact hold h2 v2 _ P2 c2 x3 mo3 (wg3.tr lv) se3 (by omega)
    have kw := x.kw
    have f5 := (x.gx.fs hs).2.2.2.2.2.1
    obtain ⟨k1, k5, k3⟩ := f5 e
    unfold tTurn at wg
    rw [sX18_walk_2, sX18_walk_3, if_neg (by decide), sX18_walk_6, sX18_walk_7 (cr.kk k1 (by decide)), cr.ii k1 rfl, k5, sX18_walk_10]
    by_cases z6 : U 20 s = 6
    · rw [if_pos z6] at wg
      rw [if_pos (by rw [bI_f (by omega)]; rfl), sX18_walk_22, sX18_walk_23, sX18_walk_27, sX18_walk_28, sX18_walk_29, if_neg (by decide)]
      exact body h v S cr x hz (Int.le_refl _) kf wg
    · rw [if_neg z6] at wg
      have z5 : U 20 s = 5 := by omega
      have dz : ∀ f, f ≠ 64 → tDrwS S f = S f := fun f hf => tDrwS_o hf
      have hz1 : tDrwS S 66 0 = 0 ∧ tDrwS S 68 0 = 0 ∧ tDrwS S 69 0 = n := by
        rw [dz 66 (by decide), dz 68 (by decide), dz 69 (by decide)]
        exact hz
      have kf1 : KF n S0 (tDrwS S) := kf.tr (KF.cg (fun f hf => dz f (by omega)))
      obtain ⟨y, hy, ey, y0, y1⟩ := dr2_i (S := S)
      rw [ey] at wg
      rw [if_neg (by rw [bI_t z5]; decide), sX18_walk_13, sX18_walk_14, sX18_walk_15 (cr.kk kw (by decide)), i_2]
      refine wk_draw cr x (by omega) (fun h1 v1 c1 x1 => ?_)
      rw [Kt_v, hy, sX18_walk_18, sX18_walk_19, i_1]
      by_cases zy : y = 1
      · rw [if_pos zy] at wg
        rw [if_neg (fun t => t (by rw [zy])), sX18_walk_22, sX18_walk_23, sX18_walk_27, sX18_walk_28, sX18_walk_29, if_neg (by decide)]
        exact body h1 v1 _ c1 x1 hz1 (by rw [dz 65 (by decide)]; exact Int.le_refl _) kf1 wg
      · rw [if_neg zy] at wg
        rw [if_pos (fun t => zy ((iI_eq (by omega) (by omega) (by omega) (by omega)).mp t)), sX18_walk_26, sX18_walk_27, sX18_walk_28, sX18_walk_29, if_pos rfl]
        exact stop h1 v1 _ P c1 x1 mo wg (Or.inr ⟨hz1.2.1, hz1.2.2, kf1⟩)
theorem sw_34 (bw : BWC r R A T w p0 g U c l wk v0) (j : JP w g U c l) (hs : As w U s) (hr : 9 - g (U 22 s) ≤ (r + 1 : Nat)) (e : U 20 s = 5 ∨ U 20 s = 6) : SWN (r + 1) 199 R A T w p0 g U c l wk v0 s := by
  intro h v S P n Q cr x hz pa q
  have b65 := x.1.2.2.2.1
  have tb : tBeg U w s S = tTurn U s S := by
    unfold tBeg tTurn
    rw [if_neg (by omega), if_neg (by omega), if_neg (by omega), if_neg (by omega)]
    by_cases z : U 20 s = 6
    · rw [if_neg (by omega), if_neg (by omega), if_neg (by omega), if_pos (Or.inl z), if_pos z]
    · rw [if_pos (by omega), if_neg z]
  rw [eX18_walk, sX18_walk_0, sX18_walk_1]
  exact sw_lp bw j hs hr e hz.2.2.2 q 301 h v S P (by omega) cr x ⟨hz.1, hz.2.1, hz.2.2.1⟩ pa (fun _ t => t) (by rw [tb]; exact WGo.rf) KF.rf
end WS3
