/-! COMPONENT, 157: walks: the catches of a try; every statement *-/
section WS5
variable {R : Nat → Nat} {A : Nat → Int → Nat} {T : Nat → Nat} {w p0 n s b d m cc y : Int} {g : Int → Int} {U S S' S1 S0 X : tSt} {c l : Int → Int} {wk r : Nat} {P P0 : Int → Prop} {v0 v v' : vT} {h : am_H} {Q : am_O → am_H → Prop} {l2 l3 l4 : Option am_V}
/-- the catches from k on -/
theorem ty_cat (bw : BWC r R A T w p0 g U c l wk v0) (j : JP w g U c l) (hs : As w U s) (hr : 9 - g (U 22 s) ≤ (r + 1 : Nat)) (e : U 20 s = 9) (gn : 0 ≤ n ∧ n ≤ g (U 22 s)) (q : ∀ h' v' S' P', CR h' v' → WV R A T w p0 U c l wk P' v0 v' S' → (∀ k, P0 k → P' k) → WGo w U X S' → SE n S0 S' → Q (Sum.inl none) h')
    (cr : CR h v) (x : WV R A T w p0 U c l wk P v0 v S) (h66 : S 66 0 = 1) (h68 : S 68 0 = 0) (h69 : S 69 0 = n) (pa : PAn w U P (U 22 s)) (mo : ∀ k, P0 k → P k) (kf : KF n S0 S) : ∀ (d : Nat) (k : Int), 0 ≤ k → k + d = U 33 s →
    WGo w U X (if tFst (fun k => und U w (S 67 0) (cBy U w (4 * s + k))) d k = -1 then tFin U s S else tPush U (U 34 (4 * s + tFst (fun k => und U w (S 67 0) (cBy U w (4 * s + k))) d k)) (up (up S 74 (4 * s + tFst (fun k => und U w (S 67 0) (cBy U w (4 * s + k))) d k) (S 67 0)) 66 0 0)) →
    Rn (r + 1) 201 64 [some (vR (some (A 2 s))), some (vR (some wk)), some (vI (iI k)), l3, l4] [] h Q := by
  have b33 := QV_b j.2.1.2.1 (f := 33) (c := 4) rfl rfl rfl s
  have qw := j.2.1.2.2.1
  have kw := x.kw
  have zg := j.1.2.2.2.2 _ (j.pw.1 s hs)
  have sn := As_n j hs
  obtain ⟨t1, t1a, t1b⟩ := x.1.2.1 h66
  obtain ⟨k1, _, _, _, l9, k9, r9, v9⟩ := FS9 x.gx hs e
  have len : (vLs v l9).length = (U 33 s).toNat := by rw [v9, rowL_len]
  intro d
  induction d with
  | zero =>
    intro k k0 hk wg
    have wg' : WGo w U X (tFin U s S) := wg
    rw [sX20_walk_64, sX20_walk_65, sX20_walk_66 (cr.kk k1 (by decide)), cr.rr k1 rfl, r9, sX20_walk_69 (cr.kk k9 (by decide)), v_size cr k9, len, Kt_v, sX20_walk_72, if_pos (by rw [iI_le (by omega) (by omega) (by omega) (by omega)]; omega)]
    exact ty_fin bw j hs hr e gn q cr x h68 h69 pa mo wg' kf
  | succ d ih =>
    intro k k0 hk wg
    have hc : As w U ((4 * s + k) / 4) ∧ (4 * s + k) % 4 < U 33 ((4 * s + k) / 4) := by
      have e1 : (4 * s + k) / 4 = s := by omega
      have e2 : (4 * s + k) % 4 = k := by omega
      rw [e1, e2]
      exact ⟨hs, by omega⟩
    have ge : (vLs v l9).getD k.toNat none = some (A 4 (4 * s + k)) := by rw [v9, rowL_get k0 (by omega)]
    obtain ⟨⟨kc, _⟩, _, rb⟩ := x.gx.2.2.2.2.2.2.2.1 (4 * s + k) hc.1 hc.2
    rw [sX20_walk_64, sX20_walk_65, sX20_walk_66 (cr.kk k1 (by decide)), cr.rr k1 rfl, r9, sX20_walk_69 (cr.kk k9 (by decide)), v_size cr k9, len, Kt_v, sX20_walk_72, if_neg (by rw [iI_le (by omega) (by omega) (by omega) (by omega)]; omega), sX20_walk_75, sX20_walk_76 (cr.kk kw (by decide)), cr.ii kw rfl, sX20_walk_79, sX20_walk_80, i_1, if_neg (fun t => t ((how_eq x.1 (by omega)).mpr ((hwO_1 x.1).mpr ⟨h68, h66⟩))), sX20_walk_83, sX20_walk_84 (cr.kk k1 (by decide)), cr.rr k1 rfl, r9, sX20_walk_87, sX20_walk_88 (cr.kk k9 (by decide)), v_get cr k9 k0 (by rw [len]; omega), Kt_v, ge, sX20_walk_91 (by rw [cr.kk kc (by decide)]; decide), sX20_walk_94, sX20_walk_95 (cr.kk kw (by decide)), cr.rr kw rfl, t1, sX20_walk_98 (cr.kk kc (by decide)), c_catches j cr x.gx hc ⟨t1a, t1b⟩, Kt_v, sX20_walk_101]
    unfold tFst at wg
    by_cases z : und U w (S 67 0) (cBy U w (4 * s + k)) = true
    · rw [if_pos z, if_neg (show ¬ k = -1 by omega)] at wg
      have bz := (j.1.2.1 s hs).2.2.2 k k0 (by omega)
      have bd : bo w U s (U 34 (4 * s + k)) := bz.1
      have x2 := WV_is x hc t1a t1b qw.1.2
      have h682 : up S 74 (4 * s + k) (S 67 0) 68 0 = 0 := by rw [up_n (by decide)]; exact h68
      have x3 := WV_on x2 h682
      have kw2 := x2.kw
      have c2 : CR (putR h (A 4 (4 * s + k)) 5 (some (A 0 (S 67 0)))) (vpR v (A 4 (4 * s + k)) 5 (some (A 0 (S 67 0)))) := CR_pR (n := 22) cr kc rfl
      have c3 : CR (putI (putR h (A 4 (4 * s + k)) 5 (some (A 0 (S 67 0)))) wk 0 0) (vpI (vpR v (A 4 (4 * s + k)) 5 (some (A 0 (S 67 0)))) wk 0 0) := CR_pI c2 kw2 rfl
      have pa3 : PAn w U (fun i => P i ∨ i = 4 * s + k) (U 22 s) := fun i hi a b => Or.inl (pa i hi a b)
      have mo3 : ∀ i, P0 i → (P i ∨ i = 4 * s + k) := fun i hi => Or.inl (mo i hi)
      have kf3 : KF n S0 (up (up S 74 (4 * s + k) (S 67 0)) 66 0 0) := kf.tr (KF.cg (fun f hf => by rw [up_n (by omega), up_n (by omega)]))
      have z69 : up (up S 74 (4 * s + k) (S 67 0)) 66 0 0 69 0 = n := by rw [up_n (by decide), up_n (by decide)]; exact h69
      have z68 : up (up S 74 (4 * s + k) (S 67 0)) 66 0 0 68 0 = 0 := by rw [up_n (by decide)]; exact h682
      have z66 : up (up S 74 (4 * s + k) (S 67 0)) 66 0 0 66 0 = 0 := up_s
      generalize up (up S 74 (4 * s + k) (S 67 0)) 66 0 0 = S3 at *
      obtain ⟨k1', _, _, _, l9', k9', r9', v9'⟩ := FS9 x3.gx hs e
      have len' : (vLs (vpI (vpR v (A 4 (4 * s + k)) 5 (some (A 0 (S 67 0)))) wk 0 0) l9').length = (U 33 s).toNat := by rw [v9', rowL_len]
      have ge' : (vLs (vpI (vpR v (A 4 (4 * s + k)) 5 (some (A 0 (S 67 0)))) wk 0 0) l9').getD k.toNat none = some (A 4 (4 * s + k)) := by rw [v9', rowL_get k0 (by omega)]
      obtain ⟨⟨kc', _⟩, _, rb'⟩ := x3.gx.2.2.2.2.2.2.2.1 (4 * s + k) hc.1 hc.2
      have kb3 := x3.gx.kb bd.1
      rw [if_neg (by rw [bI_t z]; decide), sX20_walk_104, sX20_walk_105 (cr.kk k1 (by decide)), cr.rr k1 rfl, r9, sX20_walk_108, sX20_walk_109 (cr.kk k9 (by decide)), v_get cr k9 k0 (by rw [len]; omega), Kt_v, ge, sX20_walk_112 (by rw [cr.kk kc (by decide)]; decide), sX20_walk_115, sX20_walk_116 (cr.kk kw (by decide)), cr.rr kw rfl, t1, sX20_walk_119 (cr.kk kc (by decide)), sX20_walk_122, sX20_walk_123, sX20_walk_124 (c2.kk kw2 (by decide))]
      generalize (vpI (vpR v (A 4 (4 * s + k)) 5 (some (A 0 (S 67 0)))) wk 0 0) = v3 at *
      generalize (putI (putR h (A 4 (4 * s + k)) 5 (some (A 0 (S 67 0)))) wk 0 0) = h3 at *
      rw [sX20_walk_127, sX20_walk_128 (c3.kk k1' (by decide)), c3.rr k1' rfl, r9', sX20_walk_131, sX20_walk_132 (c3.kk k9' (by decide)), v_get c3 k9' k0 (by rw [len']; omega), Kt_v, ge', sX20_walk_135 (by rw [c3.kk kc' (by decide)]; decide), sX20_walk_138 (c3.kk kc' (by decide)), c3.rr kc' rfl, rb', sX20_walk_141, sX20_walk_142 (c3.kk kb3 (by decide))]
      refine blk_go bw j hs hr bd c3 x3 ⟨z66, z68, z69, gn⟩ pa3 (fun _ => Or.inr (by rw [bd.2.1, bz.2.2])) (fun h4 v4 S4 P4 c4 x4 mo4 wg4 be => ?_)
      obtain ⟨k14, _, _, _, l94, k94, r94, v94⟩ := FS9 x4.gx hs e
      have len4 : (vLs v4 l94).length = (U 33 s).toNat := by rw [v94, rowL_len]
      have mo5 : ∀ i, P0 i → P4 i := fun i hi => mo4 i (mo3 i hi)
      have wg5 := wg.tr wg4
      rw [Kt_0, sX20_walk_145, sX20_walk_146 (c4.kk k14 (by decide)), c4.rr k14 rfl, r94, sX20_walk_149 (c4.kk k94 (by decide)), v_size c4 k94, len4, Kt_v, sX20_walk_152, sX20_walk_153, i_1, iI_add, sX20_walk_156, sX20_walk_64, sX20_walk_65, sX20_walk_66 (c4.kk k14 (by decide)), c4.rr k14 rfl, r94, sX20_walk_69 (c4.kk k94 (by decide)), v_size c4 k94, len4, Kt_v, sX20_walk_72, if_pos (by rw [iI_le (by omega) (by omega) (by omega) (by omega)]; omega)]
      rcases be with be | ⟨b68', b69, kf4, ⟨b70, b72, b73⟩, b71, bz4⟩
      · exact ty_end c4 x4 hs e be.1 (q h4 v4 S4 P4 c4 x4 mo5 wg5 (Or.inl be))
      · have lv := WG_leave (U := U) (w := w) (n := n) (b := U 34 (4 * s + k)) (x4.wr (by omega)) b69 (by omega) b68' x4.1.2.2.2.2.2.2.1 b70 bd.1 bz4 b71 (by omega) (by omega) (by omega)
        have el : tLv U w (U 34 (4 * s + k)) n (up S4 69 0 n) = tFin U s (up S4 69 0 n) := by
          unfold tLv
          rw [if_neg (by omega), if_neg (by omega), if_neg (by omega), if_pos bz.2.1, bd.2.1]
        rw [el] at lv
        have x5 : WV R A T w p0 U c l wk P4 v0 v4 (up S4 69 0 n) := WV_cg x4 (fun f hf => up_n (by omega))
        have kf5 : KF n S0 (up S4 69 0 n) := (kf3.tr kf4).tr (KF.cg (fun f hf => up_n (by omega)))
        exact ty_fin bw j hs hr e gn q c4 x5 (by rw [up_n (by decide)]; exact b68') up_s (fun i hi a b => mo4 _ (pa3 i hi a b)) mo5 (wg5.tr lv) kf5
    · rw [if_neg z] at wg
      rw [if_pos (by rw [bI_f z]; rfl), sX20_walk_153, i_1, iI_add, sX20_walk_156]
      exact ih (k + 1) (by omega) (by omega) wg
theorem sw_36 (bw : BWC r R A T w p0 g U c l wk v0) (j : JP w g U c l) (hs : As w U s) (hr : 9 - g (U 22 s) ≤ (r + 1 : Nat)) (e : U 20 s = 9) : SWN (r + 1) 201 R A T w p0 g U c l wk v0 s := by
  intro h v S P n Q cr x hz pa q
  have b30 := QV_b j.2.1.2.1 (f := 30) (c := 4) rfl rfl rfl s
  have b33 := QV_b j.2.1.2.1 (f := 33) (c := 4) rfl rfl rfl s
  have qw := j.2.1.2.2.1
  have zg := j.1.2.2.2.2 _ (j.pw.1 s hs)
  have bd := bo27 j hs (by omega)
  have h41 : U 41 (U 27 s) = 5 := by
    have := ((j.1.1 _ bd.1).2 bd.2.2).2
    have z := ((j.1.2.1 s hs).1 (by have := bd.1.1; have := j.2.1.2.2.2.1; omega)).2
    unfold rsO at this
    rw [bd.2.1, e] at this
    omega
  have tb : tBeg U w s S = tPush U (U 27 s) S := by
    unfold tBeg
    rw [if_neg (by omega), if_neg (by omega), if_neg (by omega), if_neg (by omega), if_neg (by omega), if_neg (by omega), if_neg (by omega), if_pos (by omega)]
  rw [tb] at q
  obtain ⟨k1, k8, _⟩ := FS9 x.gx hs e
  rw [eX20_walk, sX20_walk_0, sX20_walk_1 (cr.kk k1 (by decide)), cr.rr k1 rfl, k8, sX20_walk_4, sX20_walk_5 (cr.kk (x.gx.kb bd.1) (by decide))]
  refine blk_go bw j hs hr bd cr x hz pa (by omega) (fun h1 v1 S1 P1 c1 x1 mo wg be => ?_)
  have kw1 := x1.kw
  obtain ⟨k11, _, _, ⟨l7, k7, r7, v7⟩, l9, k9, r9, v9⟩ := FS9 x1.gx hs e
  have len7 : (vLs v1 l7).length = (U 30 s).toNat := by rw [v7]; unfold clN; rw [List.length_map, List.length_range]
  have len9 : (vLs v1 l9).length = (U 33 s).toNat := by rw [v9, rowL_len]
  rw [Kt_0, sX20_walk_8, sX20_walk_9 (c1.kk k11 (by decide)), c1.rr k11 rfl, r7, sX20_walk_12 (c1.kk k7 (by decide)), v_size c1 k7, len7, Kt_v, sX20_walk_15, sX20_walk_16, i_1, iI_sub, sX20_walk_17]
  rcases be with be | ⟨b68', b69, kf4, ⟨b70, b72, b73⟩, b71, bz4⟩
  · have fin : ∀ l2, Rn (r + 1) 201 62 [some (vR (some (A 2 s))), some (vR (some wk)), l2, none, none] [] h1 Q := fun l2 => by
      rw [sX20_walk_62, sX20_walk_63, sX20_walk_64, sX20_walk_65, sX20_walk_66 (c1.kk k11 (by decide)), c1.rr k11 rfl, r9, sX20_walk_69 (c1.kk k9 (by decide)), v_size c1 k9, len9, Kt_v, sX20_walk_72]
      split
      · exact ty_end c1 x1 hs e be.1 (q h1 v1 S1 P1 c1 x1 mo wg (Or.inl be))
      · rw [sX20_walk_75, sX20_walk_76 (c1.kk kw1 (by decide)), c1.ii kw1 rfl, sX20_walk_79, sX20_walk_80, i_1, if_pos (fun t => by have := (hwO_1 x1.1).mp ((how_eq x1.1 (by omega)).mp t); omega)]
        exact ty_end c1 x1 hs e be.1 (q h1 v1 S1 P1 c1 x1 mo wg (Or.inl be))
    rw [sX20_walk_18, sX20_walk_19]
    split
    · exact fin _
    · rw [sX20_walk_22, sX20_walk_23 (c1.kk kw1 (by decide)), c1.ii kw1 rfl, sX20_walk_26, sX20_walk_27, i_4, if_pos ((how_eq x1.1 (by omega)).mpr ((hwO_4 x1.1).mpr be.1))]
      exact fin _
  · have x2 : WV R A T w p0 U c l wk P1 v0 v1 (up S1 69 0 n) := WV_cg x1 (fun f hf => up_n (by omega))
    have e68 : up S1 69 0 n 68 0 = 0 := by rw [up_n (by decide)]; exact b68'
    refine ty_close j hs e (U 30 s).toNat h1 v1 (up S1 69 0 n) (by omega) c1 x2 e68 (fun h2 v2 l2 c2 x3 => ?_)
    have kf2 : KF n S (tCl U w s (U 30 s).toNat (up S1 69 0 n)) := kf4.tr (KF.cg (fun f hf => by rw [tCl_o (by omega) (by omega) (by omega), up_n (by omega)]))
    have g68 : tCl U w s (U 30 s).toNat (up S1 69 0 n) 68 0 = 0 := by rw [tCl_o (by decide) (by decide) (by decide)]; exact e68
    have g69 : tCl U w s (U 30 s).toNat (up S1 69 0 n) 69 0 = n := by rw [tCl_o (by decide) (by decide) (by decide)]; exact up_s
    have lv := WG_leave (U := U) (w := w) (n := n) (b := U 27 s) (x1.wr (by omega)) b69 (by omega) b68' x1.1.2.2.2.2.2.2.1 b70 bd.1 bz4 b71 (by omega) (by omega) (fun _ t => by
      rw [bd.2.1] at t ⊢
      exact ⟨(x3.1.2.1 t).2, fun k k0 k1 => ((j.1.2.1 s hs).2.2.2 k k0 k1).1.1⟩)
    have el : tLv U w (U 27 s) n (up S1 69 0 n) = tLv5 U w s (tCl U w s (U 30 s).toNat (up S1 69 0 n)) := by
      unfold tLv
      rw [if_neg (by omega), if_neg (by omega), if_pos h41, bd.2.1]
    rw [el] at lv
    generalize tCl U w s (U 30 s).toNat (up S1 69 0 n) = S2 at *
    have pa2 : PAn w U P1 (U 22 s) := fun i hi a b => mo _ (pa i hi a b)
    unfold tLv5 at lv
    rw [sX20_walk_62, sX20_walk_63, i_0]
    by_cases y1 : S2 66 0 = 1
    · rw [if_pos y1] at lv
      refine ty_cat bw j hs hr e hz.2.2.2 q c2 x3 y1 g68 g69 pa2 mo kf2 (U 33 s).toNat 0 (by omega) (by omega) ?_
      unfold tCg at lv
      by_cases y2 : tFst (fun k => und U w (S2 67 0) (cBy U w (4 * s + k))) (U 33 s).toNat 0 = -1
      · rw [if_pos y2, if_pos rfl] at lv
        rw [if_pos y2]
        exact wg.tr lv
      · have fb := tFst_b (fun k => und U w (S2 67 0) (cBy U w (4 * s + k))) (U 33 s).toNat 0
        have sn := As_n j hs
        rw [if_neg y2, if_neg (by omega)] at lv
        rw [if_neg y2]
        exact wg.tr lv
    · rw [if_neg y1] at lv
      have kw2 := x3.kw
      obtain ⟨k12, _, _, _, l92, k92, r92, v92⟩ := FS9 x3.gx hs e
      have len2 : (vLs v2 l92).length = (U 33 s).toNat := by rw [v92, rowL_len]
      have fin : ∀ l2, Rn (r + 1) 201 159 [some (vR (some (A 2 s))), some (vR (some wk)), l2, none, none] [] h2 Q := fun l2 => ty_fin bw j hs hr e hz.2.2.2 q c2 x3 g68 g69 pa2 mo (wg.tr lv) kf2
      rw [sX20_walk_64, sX20_walk_65, sX20_walk_66 (c2.kk k12 (by decide)), c2.rr k12 rfl, r92, sX20_walk_69 (c2.kk k92 (by decide)), v_size c2 k92, len2, Kt_v, sX20_walk_72]
      split
      · exact fin _
      · rw [sX20_walk_75, sX20_walk_76 (c2.kk kw2 (by decide)), c2.ii kw2 rfl, sX20_walk_79, sX20_walk_80, i_1, if_pos (fun t => y1 ((hwO_1 x3.1).mp ((how_eq x3.1 (by omega)).mp t)).2)]
        exact fin _
/-- from the walk of its kind to the step of a statement -/
theorem sw_go {nn κ : Nat} (hs : As w U s) (hκ : ∀ v, GX R A T w p0 v U → hK v.1 (A 2 s) = κ) (dd : ∀ (r : Nat) (h : am_H) (Q : am_O → am_H → Prop) (l0 l1 : Option am_V) (z0 : Option Nat) (a1 : Nat), hK h a1 = κ → (Rn r 160 9 [l0, l1] [vR z0, vR (some a1)] h Q ↔ Cl r nn [vR (some a1), vR z0] h (Kt r 160 12 [l0, l1] [] Q)))
    (sw : SWN r nn R A T w p0 g U c l wk v0 s) : SWC r R A T w p0 g U c l wk v0 s := by
  intro h v S P n Q cr x hz pa q
  have ks := (x.gx.2.2.2.2.1 s hs).1.1
  have kh : hK h (A 2 s) = κ := by rw [← hκ v x.gx]; exact cr.kd (by omega)
  rw [sX12_step_7, sX12_step_8, dd _ _ _ _ _ _ _ kh]
  refine sw h v S P n _ cr x hz pa (fun h' v' S' P' c' x' mo wg se => ?_)
  rw [Kt_0, sX12_step_12]
  exact q h' v' S' P' c' x' mo wg se
theorem sw_all (bw : BWC r R A T w p0 g U c l wk v0) (j : JP w g U c l) (hs : As w U s) (hr : 9 - g (U 22 s) ≤ (r + 1 : Nat)) : SWC (r + 1) R A T w p0 g U c l wk v0 s := by
  have qv := j.2.1.2.1
  have b20 : 0 ≤ U 20 s ∧ U 20 s ≤ 11 := by
    exact (j.2.1.2.2.1.2.2.2.2.1 s hs).2.2.1
  have cs : U 20 s = 0 ∨ U 20 s = 8 ∨ U 20 s = 3 ∨ U 20 s = 1 ∨ U 20 s = 2 ∨ U 20 s = 4 ∨ U 20 s = 5 ∨ U 20 s = 6 ∨ U 20 s = 7 ∨ U 20 s = 9 ∨ U 20 s = 10 ∨ U 20 s = 11 := by omega
  rcases cs with e | e | e | e | e | e | e | e | e | e | e | e
  · exact sw_go hs (fun v gx => (((gx.fs hs).1) (Or.inl e)).1) (fun _ _ _ _ _ _ _ k => sX12_step_9_k30 k) (sw_30 j hs (Or.inl e))
  · exact sw_go hs (fun v gx => (((gx.fs hs).1) (Or.inr e)).1) (fun _ _ _ _ _ _ _ k => sX12_step_9_k30 k) (sw_30 j hs (Or.inr e))
  · exact sw_go hs (fun v gx => (((gx.fs hs).2.1) e).1) (fun _ _ _ _ _ _ _ k => sX12_step_9_k30 k) (sw_set j hs e)
  · exact sw_go hs (fun v gx => (((gx.fs hs).2.2.1) e).1) (fun _ _ _ _ _ _ _ k => sX12_step_9_k31 k) (sw_31 bw j hs hr e)
  · exact sw_go hs (fun v gx => (((gx.fs hs).2.2.2.1) e).1) (fun _ _ _ _ _ _ _ k => sX12_step_9_k32 k) (sw_32 j hs e)
  · exact sw_go hs (fun v gx => (((gx.fs hs).2.2.2.2.1) e).1) (fun _ _ _ _ _ _ _ k => sX12_step_9_k33 k) (sw_33 bw j hs hr e)
  · exact sw_go hs (fun v gx => (((gx.fs hs).2.2.2.2.2.1) (Or.inl e)).1) (fun _ _ _ _ _ _ _ k => sX12_step_9_k34 k) (sw_34 bw j hs hr (Or.inl e))
  · exact sw_go hs (fun v gx => (((gx.fs hs).2.2.2.2.2.1) (Or.inr e)).1) (fun _ _ _ _ _ _ _ k => sX12_step_9_k34 k) (sw_34 bw j hs hr (Or.inr e))
  · exact sw_go hs (fun v gx => by obtain ⟨_, _, k, _⟩ := ((gx.fs hs).2.2.2.2.2.2.1) e; exact k) (fun _ _ _ _ _ _ _ k => sX12_step_9_k35 k) (sw_35 j hs e (fun z => (tTg_As j.2.1.1 _ _ (j.pw.1 s hs)).resolve_left z))
  · exact sw_go hs (fun v gx => (((gx.fs hs).2.2.2.2.2.2.2.1) e).1) (fun _ _ _ _ _ _ _ k => sX12_step_9_k36 k) (sw_36 bw j hs hr e)
  · exact sw_go hs (fun v gx => (((gx.fs hs).2.2.2.2.2.2.2.2.1) e).1) (fun _ _ _ _ _ _ _ k => sX12_step_9_k37 k) (sw_37 e)
  · exact sw_go hs (fun v gx => (((gx.fs hs).2.2.2.2.2.2.2.2.2.1) e).1) (fun _ _ _ _ _ _ _ k => sX12_step_9_k38 k) (sw_38 bw j hs hr e)
/-- every block can be walked -/
theorem BWC_all (j : JP w g U c l) : ∀ r, BWC r R A T w p0 g U c l wk v0
  | 0 => fun h v S P b n Q cr x hz hb h9 pa q => by
    have := j.1.2.2.2.2 b hb
    omega
  | r + 1 => c_bwalk j (fun s hs hr => sw_all (BWC_all j r) j hs hr)
end WS5
