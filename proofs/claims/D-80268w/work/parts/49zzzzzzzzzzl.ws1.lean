/-! COMPONENT, 153: walks: group, if, run, break, return *-/
section WS1
variable {R : Nat → Nat} {A : Nat → Int → Nat} {T : Nat → Nat} {w p0 n s b d : Int} {g : Int → Int} {U S S' S1 S0 : tSt} {c l : Int → Int} {wk r : Nat} {P P0 : Int → Prop} {v0 v v' : vT} {h : am_H} {Q : am_O → am_H → Prop} {l3 l4 : Option am_V}
/-- the walker's fields are set anew -/
theorem WV_set (x : WV R A T w p0 U c l wk P v0 v S) (f : Fw (fun a _ => a = wk) v v') (e1 : hN v'.1 = hN v.1) (e2 : hS v'.1 = hS v.1) (e64 : S' 64 = S 64) (e65 : S' 65 = S 65) (e74 : S' 74 = S 74) (b66 : 0 ≤ S' 66 0 ∧ S' 66 0 ≤ 3) (b67 : -1 ≤ S' 67 0 ∧ S' 67 0 < 100000) (b68 : S' 68 0 = 0)
    (k0 : hI v'.1 wk 0 = iI (hwO S')) (k3 : hJ v'.1 wk 3 = hJ v.1 wk 3) (k4 : hI v'.1 wk 4 = hI v.1 wk 4) (t1 : S' 66 0 = 1 → hR v'.1 wk 1 = some (A 0 (S' 67 0)) ∧ 0 ≤ S' 67 0 ∧ S' 67 0 < U 3 w) (t2 : S' 66 0 = 2 → hR v'.1 wk 2 = some (A 2 (S' 67 0)) ∧ As w U (S' 67 0)) : WV R A T w p0 U c l wk P v0 v' S' := by
  obtain ⟨ww, wu⟩ := x
  obtain ⟨⟨kw, i0, j3, i4⟩, _, _, b65, _, b74, _, _⟩ := id ww
  refine ⟨⟨⟨f.kk kw (by decide), k0, ?_, ?_⟩, t1, t2, ?_, b66, ?_, b67, Or.inl b68⟩, WU_wk wu kw f e1 e2 e74⟩
  · rw [k3, j3, e64]
  · rw [k4, i4, e65]
  · rw [e65]; exact b65
  · rw [e74]; exact b74
theorem blk_go (bw : BWC r R A T w p0 g U c l wk v0) (j : JP w g U c l) (hs : As w U s) (hr : 9 - g (U 22 s) ≤ (r + 1 : Nat)) (hd : bo w U s d) (cr : CR h v) (x : WV R A T w p0 U c l wk P v0 v S) (hz : S 66 0 = 0 ∧ S 68 0 = 0 ∧ S 69 0 = n ∧ (0 ≤ n ∧ n ≤ g (U 22 s))) (pa : PAn w U P (U 22 s)) (p6 : U 41 d = 6 → P (4 * U 42 d + U 43 d))
    (q : ∀ h' v' S' P', CR h' v' → WV R A T w p0 U c l wk P' v0 v' S' → (∀ k, P k → P' k) → WGo w U (tPush U d S) S' → BE n d S S' → Q (Sum.inl none) h') : Cl r 106 [vR (some (A 3 d)), vR (some wk)] h Q := by
  have gd := bo_g j.1.2.2.2.2 hd
  obtain ⟨z1, z2, z3, z4⟩ := hz
  refine bw h v S P d n Q cr x ⟨z1, z2, z3, by omega⟩ hd.1 (by omega) (fun k hk a e => ?_) q
  obtain ⟨m, a⟩ := a
  cases m with
  | zero =>
    have e2 : d = k := a
    rw [← e2] at e ⊢
    exact p6 e
  | succ m =>
    have a2 := a.2
    rw [hd.2.1] at a2
    exact pa k hk ⟨m, a2⟩ e
/-- a block is left behind which nothing happens -/
theorem lv_plain (hd : Ab w U d) (h41 : U 41 d = 2 ∨ U 41 d = 3 ∨ U 41 d = 9) (n0 : 0 ≤ n) (n9 : n ≤ 9) (x : WV R A T w p0 U c l wk P v0 v S1) (be : BE n d S S1) : ∃ S', WGo w U S1 S' ∧ WV R A T w p0 U c l wk P v0 v S' ∧ SE n S S' := by
  rcases be with be | ⟨h68, h69, kf, ⟨h70, _⟩, h71, hz⟩
  · exact ⟨S1, WGo.rf, x, Or.inl be⟩
  · have wg := WG_leave (U := U) (w := w) (n := n) (b := d) (x.wr (by omega)) h69 n0 h68 x.1.2.2.2.2.2.2.1 h70 hd hz h71 (by omega) (by omega) (by omega)
    have e : tLv U w d n (up S1 69 0 n) = up S1 69 0 n := by
      unfold tLv
      rw [if_neg (by omega), if_neg (by omega), if_neg (by omega), if_neg (by omega), if_neg (by omega)]
    rw [e] at wg
    refine ⟨_, wg, WV_cg x (fun f hf => up_n (by omega)), Or.inr ⟨?_, up_s, kf.tr (KF.cg (fun f hf => up_n (by omega)))⟩⟩
    rw [up_n (by decide)]
    exact h68
theorem sw_38 (bw : BWC r R A T w p0 g U c l wk v0) (j : JP w g U c l) (hs : As w U s) (hr : 9 - g (U 22 s) ≤ (r + 1 : Nat)) (e : U 20 s = 11) : SWN (r + 1) 203 R A T w p0 g U c l wk v0 s := by
  intro h v S P n Q cr x hz pa q
  have bd := bo27 j hs (by omega)
  have rs := (j.1.1 _ bd.1).2 bd.2.2
  have zg := j.1.2.2.2.2 _ (j.pw.1 s hs)
  have h41 : U 41 (U 27 s) = 9 := by
    have := rs.2
    unfold rsO at this
    rw [bd.2.1, e] at this
    omega
  obtain ⟨_, _, _, _, _, _, _, _, _, f11, _⟩ := x.gx.fs hs
  obtain ⟨k1, k3⟩ := f11 e
  have tb : tBeg U w s S = tPush U (U 27 s) S := by
    unfold tBeg
    rw [if_neg (by omega), if_neg (by omega), if_neg (by omega), if_neg (by omega), if_neg (by omega), if_neg (by omega), if_neg (by omega), if_pos (by omega)]
  rw [tb] at q
  rw [eX13_walk, sX13_walk_0, sX13_walk_1 (cr.kk k1 (by decide)), cr.rr k1 rfl, k3, sX13_walk_4, sX13_walk_5 (cr.kk (x.gx.kb bd.1) (by decide))]
  refine blk_go bw j hs hr bd cr x hz pa (by omega) (fun h1 v1 S1 P1 c1 x1 mo wg be => ?_)
  obtain ⟨S2, wg2, x2, se⟩ := lv_plain bd.1 (by omega) (by omega) (by omega) x1 be
  rw [Kt_0, sX13_walk_8]
  exact q h1 v1 S2 P1 c1 x2 mo (wg.tr wg2) se
theorem dr2_i {S : tSt} : ∃ y : Int, dV (dZ (lI (S 64 0))) 2 = iI y ∧ dr2 S = y ∧ 0 ≤ y ∧ y < 2 := by
  obtain ⟨y, hy, y0, y1⟩ := dV_b (z := dZ (lI (S 64 0))) (n := 2) (by omega)
  refine ⟨y, hy, ?_, y0, y1⟩
  unfold dr2
  rw [hy, iI_toInt (by omega) (by omega)]
theorem sw_33 (bw : BWC r R A T w p0 g U c l wk v0) (j : JP w g U c l) (hs : As w U s) (hr : 9 - g (U 22 s) ≤ (r + 1 : Nat)) (e : U 20 s = 4) : SWN (r + 1) 198 R A T w p0 g U c l wk v0 s := by
  intro h v S P n Q cr x hz pa q
  have bd := bo27 j hs (by omega)
  have zg := j.1.2.2.2.2 _ (j.pw.1 s hs)
  have h41 : U 41 (U 27 s) = 2 := by
    have := ((j.1.1 _ bd.1).2 bd.2.2).2
    have z := ((j.1.2.1 s hs).1 (by have := bd.1.1; have := j.2.1.2.2.2.1; omega)).2
    unfold rsO at this
    rw [bd.2.1, e] at this
    omega
  have kw := x.kw
  obtain ⟨y, hy, ey, y0, y1⟩ := dr2_i (S := S)
  have tb : tBeg U w s S = if y = 1 then tPush U (U 27 s) (tDrwS S) else if U 28 s = -1 then tDrwS S else tPush U (U 28 s) (tDrwS S) := by
    unfold tBeg
    rw [if_neg (by omega), if_neg (by omega), if_neg (by omega), if_pos e, ey]
  rw [tb] at q
  have dz : ∀ f, f ≠ 64 → tDrwS S f = S f := fun f hf => tDrwS_o hf
  have hz1 : tDrwS S 66 0 = 0 ∧ tDrwS S 68 0 = 0 ∧ tDrwS S 69 0 = n ∧ (0 ≤ n ∧ n ≤ g (U 22 s)) := by
    rw [dz 66 (by decide), dz 68 (by decide), dz 69 (by decide)]
    exact hz
  have kf1 : KF n S (tDrwS S) := KF.cg (fun f hf => dz f (by omega))
  rw [eX17_walk, sX17_walk_0, sX17_walk_1, sX17_walk_2 (cr.kk kw (by decide)), i_2]
  refine wk_draw cr x (by omega) (fun h1 v1 c1 x1 => ?_)
  obtain ⟨_, _, _, _, f4, _⟩ := x1.gx.fs hs
  obtain ⟨k1, k2, k3⟩ := f4 e
  rw [Kt_v, hy, sX17_walk_5, sX17_walk_6, i_1]
  by_cases z : y = 1
  · rw [if_pos z] at q
    rw [if_neg (fun t => t (by rw [z])), sX17_walk_9, sX17_walk_10 (c1.kk k1 (by decide)), c1.rr k1 rfl, k2, sX17_walk_13, sX17_walk_14 (c1.kk (x1.gx.kb bd.1) (by decide))]
    refine blk_go bw j hs hr bd c1 x1 hz1 pa (by omega) (fun h2 v2 S2 P2 c2 x2 mo wg be => ?_)
    obtain ⟨S3, wg3, x3, se⟩ := lv_plain bd.1 (by omega) (by omega) (by omega) x2 be
    rw [Kt_0, sX17_walk_17, sX17_walk_35]
    refine q h2 v2 S3 P2 c2 x3 mo (wg.tr wg3) ?_
    rcases se with se | ⟨s1, s2, s3⟩
    · exact Or.inl se
    · exact Or.inr ⟨s1, s2, kf1.tr s3⟩
  · rw [if_neg z] at q
    rw [if_pos (fun t => z ((iI_eq (by omega) (by omega) (by omega) (by omega)).mp t)), sX17_walk_20, sX17_walk_21 (c1.kk k1 (by decide)), c1.rr k1 rfl, k3, sX17_walk_24]
    by_cases z2 : U 28 s = -1
    · rw [if_pos z2] at q
      rw [z2, optA_n, if_pos rfl, sX17_walk_35]
      exact q h1 v1 _ P c1 x1 (fun _ t => t) WGo.rf (Or.inr ⟨hz1.2.1, hz1.2.2.1, kf1⟩)
    · rw [if_neg z2] at q
      have bd2 := bo28 j hs z2
      have h3 := ((j.1.2.1 s hs).2.1 z2).2
      rw [optA_s z2, if_neg (by simp), sX17_walk_27, sX17_walk_28 (c1.kk k1 (by decide)), c1.rr k1 rfl, k3, optA_s z2, sX17_walk_31, sX17_walk_32 (c1.kk (x1.gx.kb bd2.1) (by decide))]
      refine blk_go bw j hs hr bd2 c1 x1 hz1 pa (by omega) (fun h2 v2 S2 P2 c2 x2 mo wg be => ?_)
      obtain ⟨S3, wg3, x3, se⟩ := lv_plain bd2.1 (by omega) (by omega) (by omega) x2 be
      rw [Kt_0, sX17_walk_35]
      refine q h2 v2 S3 P2 c2 x3 mo (wg.tr wg3) ?_
      rcases se with se | ⟨s1, s2, s3⟩
      · exact Or.inl se
      · exact Or.inr ⟨s1, s2, kf1.tr s3⟩
theorem sw_37 (e : U 20 s = 10) : SWN r 202 R A T w p0 g U c l wk v0 s := by
  intro h v S P n Q cr x hz pa q
  have tb : tBeg U w s S = S := by
    unfold tBeg
    rw [if_neg (by omega), if_neg (by omega), if_neg (by omega), if_neg (by omega), if_neg (by omega), if_neg (by omega), if_neg (by omega), if_neg (by omega)]
  rw [tb] at q
  rw [eX21_walk, sX21_walk_0]
  exact q h v S P cr x (fun _ t => t) WGo.rf (Or.inr ⟨hz.2.1, hz.2.2.1, KF.rf⟩)
theorem sw_35 (j : JP w g U c l) (hs : As w U s) (e : U 20 s = 7) (tgA : tgt U s ≠ -1 → As w U (tgt U s)) : SWN r 200 R A T w p0 g U c l wk v0 s := by
  intro h v S P n Q cr x hz pa q
  have kw := x.kw
  have tb : tBeg U w s S = up (up S 66 0 (if tgt U s = -1 then 0 else 2)) 67 0 (tgt U s) := by
    unfold tBeg
    rw [if_neg (by omega), if_neg (by omega), if_neg (by omega), if_neg (by omega), if_neg (by omega), if_pos e]
  rw [tb] at q
  obtain ⟨_, _, _, _, _, _, f7, _⟩ := x.gx.fs hs
  obtain ⟨bt, _, k1, k5, _⟩ := f7 e
  obtain ⟨h66, h68, h69, hn⟩ := hz
  rw [eX19_walk, sX19_walk_0, sX19_walk_1 (cr.kk k1 (by decide)), cr.rr k1 rfl, k5, sX19_walk_4]
  have fin : ∀ y z, SE n S (up (up S 66 0 y) 67 0 z) := fun y z => Or.inr ⟨by simp only [up_eq, true_and, false_and, and_true, and_false, and_self, if_true, if_false, eq_self, Nat.reduceEqDiff, reduceIte]; exact h68, by simp only [up_eq, true_and, false_and, and_true, and_false, and_self, if_true, if_false, eq_self, Nat.reduceEqDiff, reduceIte]; exact h69, KF.cg (fun f hf => by rw [up_n (by omega), up_n (by omega)])⟩
  by_cases z : tgt U s = -1
  · rw [z, optA_n, if_pos rfl, sX19_walk_20]
    refine q h v _ P cr ?_ (fun _ t => t) WGo.rf (fin _ _)
    rw [if_pos z, z]
    obtain ⟨ww, wu⟩ := x
    obtain ⟨⟨_, i0, j3, i4⟩, t1, t2, b65, b66, b74, b67, b68⟩ := id ww
    refine WV_set ⟨ww, wu⟩ fw0 rfl rfl ?_ ?_ ?_ ?_ ?_ ?_ ?_ rfl rfl ?_ ?_
    · rw [up_n (by decide), up_n (by decide)]
    · rw [up_n (by decide), up_n (by decide)]
    · rw [up_n (by decide), up_n (by decide)]
    · simp only [up_eq, true_and, false_and, and_true, and_false, and_self, if_true, if_false, eq_self, Nat.reduceEqDiff, reduceIte]; omega
    · simp only [up_eq, true_and, false_and, and_true, and_false, and_self, if_true, if_false, eq_self, Nat.reduceEqDiff, reduceIte]; omega
    · simp only [up_eq, true_and, false_and, and_true, and_false, and_self, if_true, if_false, eq_self, Nat.reduceEqDiff, reduceIte]; exact h68
    · rw [i0]
      unfold hwO
      simp only [up_eq, true_and, false_and, and_true, and_false, and_self, if_true, if_false, eq_self, Nat.reduceEqDiff, reduceIte]
      rw [h66]
    · simp only [up_eq, true_and, false_and, and_true, and_false, and_self, if_true, if_false, eq_self, Nat.reduceEqDiff, reduceIte]; omega
    · simp only [up_eq, true_and, false_and, and_true, and_false, and_self, if_true, if_false, eq_self, Nat.reduceEqDiff, reduceIte]; omega
  · have tA := tgA z
    have tn := As_n j tA
    rw [optA_s z, if_neg (by simp), sX19_walk_7, sX19_walk_8, sX19_walk_9 (cr.kk kw (by decide)), sX19_walk_12, sX19_walk_13, sX19_walk_14 (by rw [hK_putI]; exact cr.kk k1 (by decide)), hR_putI, cr.rr k1 rfl, k5, optA_s z, sX19_walk_17 (by rw [hK_putI]; exact cr.kk kw (by decide)), sX19_walk_20]
    refine q _ (vpR (vpI v wk 0 3) wk 2 (some (A 2 (tgt U s)))) _ P (CR_pR (n := 14) (CR_pI cr kw rfl) kw rfl) ?_ (fun _ t => t) WGo.rf (fin _ _)
    rw [if_neg z]
    refine WV_set x (fwR (fwI fw0)) rfl rfl ?_ ?_ ?_ ?_ ?_ ?_ ?_ rfl ?_ ?_ ?_
    · rw [up_n (by decide), up_n (by decide)]
    · rw [up_n (by decide), up_n (by decide)]
    · rw [up_n (by decide), up_n (by decide)]
    · simp only [up_eq, true_and, false_and, and_true, and_false, and_self, if_true, if_false, eq_self, Nat.reduceEqDiff, reduceIte]; omega
    · simp only [up_eq, true_and, false_and, and_true, and_false, and_self, if_true, if_false, eq_self, Nat.reduceEqDiff, reduceIte]; omega
    · simp only [up_eq, true_and, false_and, and_true, and_false, and_self, if_true, if_false, eq_self, Nat.reduceEqDiff, reduceIte]; exact h68
    · rw [vpR_1, hI_putR, vpI_1, hI_putI, if_pos ⟨rfl, rfl⟩]
      unfold hwO
      simp only [up_eq, true_and, false_and, and_true, and_false, and_self, if_true, if_false, eq_self, Nat.reduceEqDiff, reduceIte]
      rw [h68]
      rfl
    · rw [vpR_1, hI_putR, vpI_1, hI_putI, if_neg (by omega)]
    · simp only [up_eq, true_and, false_and, and_true, and_false, and_self, if_true, if_false, eq_self, Nat.reduceEqDiff, reduceIte]; omega
    · intro _
      simp only [up_eq, true_and, false_and, and_true, and_false, and_self, if_true, if_false, eq_self, Nat.reduceEqDiff, reduceIte]
      rw [vpR_1, hR_putR, if_pos ⟨rfl, rfl⟩]
      exact ⟨rfl, tA⟩
end WS1
