/-! COMPONENT, 117: thrown of a call *-/
section JT2
variable {R : Nat → Nat} {A : Nat → Int → Nat} {T : Nat → Nat} {w p0 s d : Int} {U : tSt} {c l g : Int → Int} {L0 X Z : List tMi} {v0 v v' : vT} {Nd N Bs : List Int} {r : Nat} {h : am_H} {Q : am_O → am_H → Prop}
theorem oc_s (hs : As w U s) (e : U 20 s = 1) : ocL U w A (stL U w (fun s => decide (U 20 s = 1))) s = optA (A 1) (mO U w (U 25 s)) := by
  unfold ocL
  rw [if_pos (stL_in.mpr ⟨hs, decide_eq_true e⟩)]
theorem thO_m {m : Int} (h : m ≠ -1) : thO U w m = tFor (fun k a => sOr a (sOnly (kO U w (U 16 (4 * (w * 12 + m) + k)) (U 17 (4 * (w * 12 + m) + k))))) (U 15 (w * 12 + m)).toNat 0 0 := by
  unfold thO
  rw [if_neg h]
theorem th_31b (j : JP w g U c l) (hs : As w U s) (e : U 20 s = 1) (cr : CR h v) (jk : JK R A T w p0 U c l L0 Nd X s v0 v N Z Bs) (hB : U 27 s = -1 ∨ U 27 s ∈ Bs) (hm : mO U w (U 25 s) ≠ -1) (q : Q (Sum.inl (some (vI (iI (c s))))) h) : Rn r 227 55 [some (vR (some (A 2 s))), some (vR (some (R 3)))] [] h Q := by
  have qv := j.2.1.2.1
  have qw := j.2.1.2.2.1
  have gx := jk.gx
  have mb := mO_b (U := U) (w := w) (x := U 25 s) qw.2.1
  have m0 : 0 ≤ mO U w (U 25 s) := by omega
  have ce : c s = if U 14 (w * 12 + mO U w (U 25 s)) ≠ 0 then sOr (thO U w (mO U w (U 25 s))) (sOnly (if chO U w (bC U w c (U 27 s)) = 0 then 2 else ovr U w (chO U w (bC U w c (U 27 s))))) else thO U w (mO U w (U 25 s)) := by
    have := (j.2.2.1 s hs).2.1
    unfold can cld at this
    rw [if_pos e] at this
    rw [this]
    by_cases z : U 14 (w * 12 + mO U w (U 25 s)) ≠ 0
    · rw [if_pos z, if_pos ⟨hm, z⟩]
    · rw [if_neg z, if_neg (fun y => z y.2)]
  obtain ⟨_, _, f1, _⟩ := gx.fs hs
  obtain ⟨k1, _, k6, k7⟩ := f1 e
  rw [oc_s hs e, optA_s hm] at k6
  obtain ⟨km, _, _, i3, _, _, _, ⟨ln, r7, _, nl⟩, _⟩ := gx.2.2.1.2.2.2 (mO U w (U 25 s)) m0 (mb.2.resolve_right hm)
  have k5 := gx.1.1.1
  have kx : KX h v (R 3) (R 4) U w (A 0) := ⟨cr, gx.1.1, qw⟩
  have b15 := QV_b qv (f := 15) (c := 4) rfl rfl rfl (w * 12 + mO U w (U 25 s))
  have bk : U 27 s = -1 ∨ Ab w U (U 27 s) := by
    rcases hB with y | y
    · exact Or.inl y
    · exact Or.inr (jk.2.1 _ y).1
  have bc : sOk (bC U w c (U 27 s)) := by
    rcases bk with y | y
    · rw [y, bC_n]; exact sOk0
    · exact bCk j y
  rw [sX15_thrown_55, sX15_thrown_56, sX15_thrown_57 (cr.kk k1 (by decide)), cr.rr k1 rfl, k6, sX15_thrown_60 (cr.kk km (by decide)), cr.rr km rfl, r7, sX15_thrown_63 (cr.kk k5 (by decide)), c_bitsOf kx nl (by omega) (fun i _ _ => kO_b qw.1), Kt_v, ← thO_m hm, sX15_thrown_66, sX15_thrown_67 (cr.kk k1 (by decide)), cr.rr k1 rfl, k6, sX15_thrown_70 (cr.kk km (by decide)), cr.ii km rfl, i3, sX15_thrown_73]
  by_cases z : U 14 (w * 12 + mO U w (U 25 s)) ≠ 0
  · rw [if_pos z] at ce
    have go : Cl r 284 [vR (some (R 3)), vI (iI (bC U w c (U 27 s)))] h (Kt r 227 98 [some (vR (some (A 2 s))), some (vR (some (R 3)))] [vI (iI (thO U w (mO U w (U 25 s))))] Q) := by
      refine c_variable kx bc ?_
      have ok : sOk (sOnly (if chO U w (bC U w c (U 27 s)) = 0 then 2 else ovr U w (chO U w (bC U w c (U 27 s))))) := by
        have := ovr_b (U := U) (w := w) (s := chO U w (bC U w c (U 27 s))) qw.1
        split
        · exact sOnly_ok (by decide) (by decide)
        · exact sOnly_ok (by omega) (by have := qw.1; omega)
      rw [Kt_v, sX15_thrown_98, sX15_thrown_102, iI_or (thO_ok qw) ok, sX15_thrown_103, ← ce]
      exact q
    rw [if_neg (by rw [bI_t z]; decide), sX15_thrown_76, sX15_thrown_77, sX15_thrown_78 (cr.kk k1 (by decide)), cr.rr k1 rfl, k7, sX15_thrown_81]
    rcases hB with y | y
    · rw [y, optA_n, if_neg (fun x => x rfl), sX15_thrown_84, sX15_thrown_85, sX15_thrown_95 (cr.kk k5 (by decide))]
      rw [y, bC_n] at go
      exact go
    · have yb := (jk.2.1 _ y).1
      have yn : U 27 s ≠ -1 := by have := yb.1; have := j.2.1.2.2.2.1; omega
      have kb := gx.kb yb
      rw [optA_s yn, if_pos (by simp), sX15_thrown_88, sX15_thrown_89 (cr.kk k1 (by decide)), cr.rr k1 rfl, k7, optA_s yn, sX15_thrown_92 (cr.kk kb (by decide)), cr.ii kb rfl, (jk.bf y).1, sX15_thrown_95 (cr.kk k5 (by decide))]
      exact go
  · rw [if_neg z] at ce
    rw [if_pos (by rw [bI_f z]; rfl), sX15_thrown_101, sX15_thrown_102, show (0 : Int32) = iI 0 from rfl, iI_or (thO_ok qw) sOk0, sOr_z (thO_ok qw), sX15_thrown_103, ← ce]
    exact q
theorem th_31a (j : JP w g U c l) (hs : As w U s) (e : U 20 s = 1) (hX : X.length ≤ 800) (cr : CR h v) (jk : JK R A T w p0 U c l L0 Nd X s v0 v N [] Bs) (hB : U 27 s = -1 ∨ U 27 s ∈ Bs) (q : ∀ h' v', CR h' v' → JK R A T w p0 U c l L0 Nd X s v0 v' N (mJ0 U w c s) Bs → Q (Sum.inl (some (vI (iI (c s))))) h') : Rn r 227 15 [some (vR (some (A 2 s))), some (vR (some (R 3)))] [] h Q := by
  have qv := j.2.1.2.1
  have qw := j.2.1.2.2.1
  have b19 := QV_b qv (f := 19) (c := 120) rfl rfl rfl w
  have gx := jk.gx
  have mb := mO_b (U := U) (w := w) (x := U 25 s) qw.2.1
  obtain ⟨_, _, f1, _⟩ := gx.fs hs
  obtain ⟨k1, _, k6, k7⟩ := f1 e
  rw [oc_s hs e] at k6
  have mj : mJ0 U w c s = if mO U w (U 25 s) ≠ -1 ∧ U 27 s ≠ -1 ∧ U 14 (w * 12 + mO U w (U 25 s)) = 0 then [(11, (U 44 (U 27 s), -1))] else [] := by
    unfold mJ0
    rw [if_pos e]
  rw [sX15_thrown_15, sX15_thrown_16 (cr.kk k1 (by decide)), cr.rr k1 rfl, k6, sX15_thrown_19]
  by_cases hm : mO U w (U 25 s) = -1
  · have ce : c s = 0 := by
      have := (j.2.2.1 s hs).2.1
      unfold can cld at this
      rw [if_pos e, if_neg (fun y => y.1 hm), hm] at this
      exact this
    rw [if_neg (fun y => y.1 hm)] at mj
    rw [hm, optA_n, if_neg (fun y => y rfl), sX15_thrown_22, sX15_thrown_23]
    have := q h v cr (by rw [mj]; exact jk)
    rw [ce] at this
    exact this
  · have m0 : 0 ≤ mO U w (U 25 s) := by omega
    obtain ⟨km, _, _, i3, _⟩ := gx.2.2.1.2.2.2 (mO U w (U 25 s)) m0 (mb.2.resolve_right hm)
    rw [optA_s hm] at k6
    rw [optA_s hm, if_pos (by simp), sX15_thrown_24, sX15_thrown_25 (cr.kk k1 (by decide)), cr.rr k1 rfl, k7, sX15_thrown_28]
    rcases hB with y | y
    · rw [if_neg (fun z => z.2.1 y)] at mj
      rw [y, optA_n, if_pos rfl]
      exact th_31b j hs e cr jk (Or.inl y) hm (q h v cr (by rw [mj]; exact jk))
    · have yb := (jk.2.1 _ y).1
      have yn : U 27 s ≠ -1 := by have := yb.1; have := j.2.1.2.2.2.1; omega
      have kb := gx.kb yb
      rw [optA_s yn, if_neg (by simp), sX15_thrown_31, sX15_thrown_32 (cr.kk k1 (by decide)), cr.rr k1 rfl, k6, sX15_thrown_35 (cr.kk km (by decide)), cr.ii km rfl, i3, sX15_thrown_38]
      by_cases z : U 14 (w * 12 + mO U w (U 25 s)) ≠ 0
      · rw [if_neg (fun x => z x.2.2)] at mj
        rw [if_pos (by rw [bI_t z]; decide)]
        exact th_31b j hs e cr jk (Or.inr y) hm (q h v cr (by rw [mj]; exact jk))
      · have z' : U 14 (w * 12 + mO U w (U 25 s)) = 0 := Classical.byContradiction z
        rw [if_pos ⟨hm, yn, z'⟩] at mj
        have k5 := gx.1.1.1
        have i1 := (gx.2.2.2.2.2.1 _ yb).2.1
        have b44 := j.2.2.2.2 _ yb
        obtain ⟨E0, e1, e2, e3⟩ := SJ_len jk.1 (fun x _ => mJs_l qv x) b19
        rw [if_neg (by rw [bI_f z]; decide), sX15_thrown_41, sX15_thrown_42, sX15_thrown_44, sX15_thrown_45 (cr.kk k1 (by decide)), cr.rr k1 rfl, k7, optA_s yn, sX15_thrown_48 (cr.kk kb (by decide)), cr.ii kb rfl, i1, sX15_thrown_51, sX15_thrown_52 (cr.kk k5 (by decide)), i_m1, show (11 : Int32) = iI 11 from rfl]
        refine c_mi1 cr k5 gx.1.2.1 e1.1 (by omega) (by omega) (by omega) (by omega) (fun h2 v2 c2 F2 m2 => ?_)
        obtain ⟨jk2, _⟩ := jk_mi j hs jk e2 e1 F2 m2 hX (by simp)
        rw [Kt_0]
        exact th_31b j hs e c2 jk2 (Or.inr y) hm (q h2 v2 c2 (by rw [mj]; exact jk2))
theorem th_31 (jbc : JBC r R A T w p0 g U c l L0) (j : JP w g U c l) (hs : As w U s) (hr : 9 - g (U 22 s) ≤ (r + 1 : Nat)) (hX : X.length ≤ 100 * g (U 22 s)) (nd : ∀ x, x ∈ Nd → ¬ uB w U s (U 22 x)) (e : U 20 s = 1) : JTh (r + 1) 227 R A T w p0 U c l L0 Nd X s := by
  intro h v Q cr jk q
  have gs := j.1.2.2.2.2 _ (j.pw.1 s hs)
  have e1 : U 20 s = 1 ∨ U 20 s = 5 ∨ U 20 s = 6 ∨ U 20 s = 10 ∨ U 20 s = 11 := by omega
  have e9 : U 20 s ≠ 9 := by omega
  have x8 : X.length ≤ 800 := by omega
  obtain ⟨_, _, f1, _⟩ := jk.gx.fs hs
  obtain ⟨k1, _, _, k7⟩ := f1 e
  rw [eX15_thrown, sX15_thrown_0, sX15_thrown_1 (cr.kk k1 (by decide)), cr.rr k1 rfl, k7, sX15_thrown_4]
  by_cases z : U 27 s = -1
  · rw [z, optA_n, if_pos rfl]
    refine th_31a j hs e x8 cr jk (Or.inl z) (fun h' v' c' jk' => q h' v' _ _ c' jk' (fun d hd => ?_) (fun y => absurd y e9))
    have := cov27 j hd e1
    have := hd.1.1
    have := j.2.1.2.2.2.1
    exfalso
    omega
  · have b6 := (j.1.2.1 s hs).1 z
    have bd := b6.1
    rw [optA_s z, if_neg (by simp), sX15_thrown_7, sX15_thrown_8 (cr.kk k1 (by decide)), cr.rr k1 rfl, k7, optA_s z, sX15_thrown_11, sX15_thrown_12 (cr.kk (jk.gx.kb bd.1) (by decide))]
    refine jk_blk jbc j hs hr hX nd cr jk bd (by simp) (by simp) (fun y => absurd y b6.2.2.1) (fun h1 v1 N c1 jk1 _ => ?_)
    rw [Kt_0]
    refine th_31a j hs e x8 c1 jk1 (Or.inr (by simp)) (fun h' v' c' jk' => q h' v' _ _ c' jk' (fun d hd => ?_) (fun y => absurd y e9))
    rw [cov27 j hd e1]
    simp
end JT2
