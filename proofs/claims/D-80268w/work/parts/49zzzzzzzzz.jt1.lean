/-! COMPONENT, 116: thrown of the statements: plain, loop, group, if, break, run *-/
section JT1
variable {R : Nat → Nat} {A : Nat → Int → Nat} {T : Nat → Nat} {w p0 s d : Int} {U : tSt} {c l g : Int → Int} {L0 X Z : List tMi} {v0 v v' : vT} {Nd N Bs : List Int} {r : Nat} {h : am_H} {Q : am_O → am_H → Prop}
theorem sOr_z {a : Int} (h : sOk a) : sOr a 0 = a := by
  unfold sOr
  rw [show (0 : Int).toNat = 0 from rfl, Nat.or_zero, Int.toNat_of_nonneg h.1]
theorem sOr_comm {a b : Int} : sOr a b = sOr b a := by unfold sOr; rw [Nat.or_comm]
theorem sOr_assoc {a b d : Int} : sOr (sOr a b) d = sOr a (sOr b d) := by
  unfold sOr
  rw [Int.toNat_natCast, Int.toNat_natCast, Nat.or_assoc]
theorem bCk (j : JP w g U c l) {b : Int} (hb : Ab w U b) : sOk (bC U w c b) := by
  have b19 := QV_b j.2.1.2.1 (f := 19) (c := 120) rfl rfl rfl w
  rw [bC_l j.1.2.2.2.1 hb j.2.1.2.2.2.1 b19]
  exact fold_ok _ 0 sOk0 (fun t ht => (j.2.2.1 t (stB_in.mp ht).1).1)
theorem bC_n : bC U w c (-1) = 0 := rfl
theorem bo_c (j : JP w g U c l) (hd : bo w U s d) : rsO (U 41 d) (U 20 s) ∧ d = (if U 41 d = 3 then U 28 s else if U 41 d = 7 then U 29 s else if U 41 d = 6 then U 34 (4 * s + U 43 d) else U 27 s) := by
  obtain ⟨h1, h2, h3⟩ := hd
  obtain ⟨a, b⟩ := (j.1.1 d h1).2 h3
  unfold nmB at a
  rw [h2] at a b
  exact ⟨b, a.symm⟩
theorem cov27 (j : JP w g U c l) (hd : bo w U s d) (e : U 20 s = 1 ∨ U 20 s = 5 ∨ U 20 s = 6 ∨ U 20 s = 10 ∨ U 20 s = 11) : d = U 27 s := by
  obtain ⟨a, b⟩ := bo_c j hd
  unfold rsO at a
  rw [if_neg (by omega), if_neg (by omega), if_neg (by omega)] at b
  exact b
theorem n28 (j : JP w g U c l) (hs : As w U s) (h : U 20 s ≠ 4) : U 28 s = -1 := Classical.byContradiction fun y => by
  have a := (bo_c j (bo28 j hs y)).1
  have b := ((j.1.2.1 s hs).2.1 y).2
  unfold rsO at a
  omega
theorem n27 (j : JP w g U c l) (hs : As w U s) (h : U 20 s = 0 ∨ U 20 s = 2 ∨ U 20 s = 3 ∨ U 20 s = 7 ∨ U 20 s = 8) : ∀ d, ¬ bo w U s d := fun d hd => by
  have a := (bo_c j hd).1
  unfold rsO at a
  omega
theorem JK.bf (jk : JK R A T w p0 U c l L0 Nd X s v0 v N Z Bs) {d : Int} (hd : d ∈ Bs) : BF A w U c l v d := jk.2.2.2.1.1 d (jk.2.1 d hd).1 ⟨d, hd, anc_rf⟩
theorem JK.gx (jk : JK R A T w p0 U c l L0 Nd X s v0 v N Z Bs) : GX R A T w p0 v U := jk.1.1
theorem th_30 (j : JP w g U c l) (hs : As w U s) (e : U 20 s = 0 ∨ U 20 s = 3 ∨ U 20 s = 8) : JTh r 226 R A T w p0 U c l L0 Nd X s := by
  intro h v Q cr jk q
  have ce : c s = 0 := by
    rw [(j.2.2.1 s hs).2.1]
    unfold can
    rcases e with e | e | e <;> rw [e] <;> rfl
  have m0 : mJ0 U w c s = [] := by
    unfold mJ0
    rcases e with e | e | e <;> rw [e] <;> rfl
  rw [eX14_thrown, sX14_thrown_0, sX14_thrown_1]
  have := q h v [] [] cr (by rw [m0]; exact jk) (fun d hd => (n27 j hs (by omega) d hd).elim) (fun y => by omega)
  rw [ce] at this
  exact this
theorem th_35 (j : JP w g U c l) (hs : As w U s) (hX : X.length ≤ 800) (e : U 20 s = 7) : JTh r 231 R A T w p0 U c l L0 Nd X s := by
  intro h v Q cr jk q
  have qv := j.2.1.2.1
  have b19 := QV_b qv (f := 19) (c := 120) rfl rfl rfl w
  have ce : c s = 0 := by
    rw [(j.2.2.1 s hs).2.1]
    unfold can
    rw [e]
    rfl
  have gx := jk.gx
  obtain ⟨_, _, _, _, _, _, f7, _⟩ := gx.fs hs
  obtain ⟨bt, _, k1, k5, _⟩ := f7 e
  have es := (gx.2.2.2.2.1 s hs).1
  rw [eX19_thrown, sX19_thrown_0, sX19_thrown_1 (cr.kk k1 (by decide)), cr.rr k1 rfl, k5, sX19_thrown_4]
  by_cases z : tgt U s = -1
  · have m0 : mJ0 U w c s = [(8, (U 21 s, -1))] := by
      unfold mJ0
      rw [e, z]
      rfl
    obtain ⟨E0, e1, e2, e3⟩ := SJ_len jk.1 (fun x _ => mJs_l qv x) b19
    have q21 := qv 21 s
    have q21a : -1 ≤ U 21 s := q21.1
    have q21b : U 21 s ≤ 100000 := q21.2.2 rfl
    have k5' := gx.1.1.1
    rw [z, optA_n, if_neg (fun y => y rfl), sX19_thrown_7, sX19_thrown_8, sX19_thrown_10, sX19_thrown_11 (cr.kk k1 (by decide)), cr.ii k1 rfl, es.2.2.1, sX19_thrown_14, sX19_thrown_15 (cr.kk k5' (by decide)), i_m1, show (8 : Int32) = iI 8 from rfl]
    refine c_mi1 cr k5' gx.1.2.1 e1.1 (by omega) (by omega) (by omega) (by omega) (fun h2 v2 c2 F2 m2 => ?_)
    obtain ⟨jk2, _⟩ := jk_mi j hs jk e2 e1 F2 m2 hX (by simp)
    rw [Kt_0, sX19_thrown_18, sX19_thrown_19]
    have := q h2 v2 [] [] c2 (by rw [m0]; exact jk2) (fun d hd => (n27 j hs (by omega) d hd).elim) (fun y => by omega)
    rw [ce] at this
    exact this
  · have m0 : mJ0 U w c s = [] := by
      unfold mJ0
      rw [e]
      show (if tgt U s = -1 then _ else _) = _
      rw [if_neg z]
    rw [optA_s z, if_pos (by simp), sX19_thrown_18, sX19_thrown_19]
    have := q h v [] [] cr (by rw [m0]; exact jk) (fun d hd => (n27 j hs (by omega) d hd).elim) (fun y => by omega)
    rw [ce] at this
    exact this
theorem th_34 (jbc : JBC r R A T w p0 g U c l L0) (j : JP w g U c l) (hs : As w U s) (hr : 9 - g (U 22 s) ≤ (r + 1 : Nat)) (hX : X.length ≤ 100 * g (U 22 s)) (nd : ∀ x, x ∈ Nd → ¬ uB w U s (U 22 x)) (e : U 20 s = 5 ∨ U 20 s = 6) : JTh (r + 1) 230 R A T w p0 U c l L0 Nd X s := by
  intro h v Q cr jk q
  have e1 : U 20 s = 1 ∨ U 20 s = 5 ∨ U 20 s = 6 ∨ U 20 s = 10 ∨ U 20 s = 11 := by omega
  have e9 : U 20 s ≠ 9 := by omega
  have bd := bo27 j hs (by omega)
  have b6 := (j.1.2.1 s hs).1 (by have := bd.1.1; have := j.2.1.2.2.2.1; omega)
  have ce : c s = bC U w c (U 27 s) := by
    have := (j.2.2.1 s hs).2.1
    unfold can at this
    rw [if_neg (by omega), if_neg (by omega), if_pos (by omega), n28 j hs (by omega), bC_n, sOr_z (bCk j bd.1)] at this
    exact this
  have m0 : mJ0 U w c s = [] := by
    unfold mJ0
    rw [if_neg (by omega), if_neg (by omega), if_neg (by omega), if_neg (by omega)]
  obtain ⟨_, _, _, _, _, f5, _⟩ := jk.gx.fs hs
  obtain ⟨k1, _, k3⟩ := f5 e
  rw [eX18_thrown, sX18_thrown_0, sX18_thrown_1 (cr.kk k1 (by decide)), cr.rr k1 rfl, k3, sX18_thrown_4, sX18_thrown_5 (cr.kk (jk.gx.kb bd.1) (by decide))]
  refine jk_blk jbc j hs hr hX nd cr jk bd (by simp) (by simp) (fun y => absurd y b6.2.2.1) (fun h1 v1 N c1 jk1 _ => ?_)
  obtain ⟨_, _, _, _, _, f5, _⟩ := jk1.gx.fs hs
  obtain ⟨k1, _, k3⟩ := f5 e
  have kb := jk1.gx.kb bd.1
  rw [Kt_0, sX18_thrown_8, sX18_thrown_9 (c1.kk k1 (by decide)), c1.rr k1 rfl, k3, sX18_thrown_12 (c1.kk kb (by decide)), c1.ii kb rfl, (jk1.bf (by simp)).1, sX18_thrown_15, ← ce]
  refine q h1 v1 _ _ c1 (by rw [m0]; exact jk1) (fun d hd => ?_) (fun y => absurd y e9)
  rw [cov27 j hd e1]
  simp
theorem th_38 (jbc : JBC r R A T w p0 g U c l L0) (j : JP w g U c l) (hs : As w U s) (hr : 9 - g (U 22 s) ≤ (r + 1 : Nat)) (hX : X.length ≤ 100 * g (U 22 s)) (nd : ∀ x, x ∈ Nd → ¬ uB w U s (U 22 x)) (e : U 20 s = 11) : JTh (r + 1) 234 R A T w p0 U c l L0 Nd X s := by
  intro h v Q cr jk q
  have bd := bo27 j hs (by omega)
  have b6 := (j.1.2.1 s hs).1 (by have := bd.1.1; have := j.2.1.2.2.2.1; omega)
  have ce : c s = bC U w c (U 27 s) := by
    have := (j.2.2.1 s hs).2.1
    unfold can at this
    rw [if_neg (by omega), if_neg (by omega), if_pos (by omega), n28 j hs (by omega), bC_n, sOr_z (bCk j bd.1)] at this
    exact this
  have m0 : mJ0 U w c s = [] := by
    unfold mJ0
    rw [if_neg (by omega), if_neg (by omega), if_neg (by omega), if_neg (by omega)]
  obtain ⟨_, _, _, _, _, _, _, _, _, f11, _⟩ := jk.gx.fs hs
  obtain ⟨k1, k3⟩ := f11 e
  rw [eX13_thrown, sX13_thrown_0, sX13_thrown_1 (cr.kk k1 (by decide)), cr.rr k1 rfl, k3, sX13_thrown_4, sX13_thrown_5 (cr.kk (jk.gx.kb bd.1) (by decide))]
  refine jk_blk jbc j hs hr hX nd cr jk bd (by simp) (by simp) (fun y => absurd y b6.2.2.1) (fun h1 v1 N c1 jk1 _ => ?_)
  obtain ⟨_, _, _, _, _, _, _, _, _, f11, _⟩ := jk1.gx.fs hs
  obtain ⟨k1, k3⟩ := f11 e
  have kb := jk1.gx.kb bd.1
  rw [Kt_0, sX13_thrown_8, sX13_thrown_9 (c1.kk k1 (by decide)), c1.rr k1 rfl, k3, sX13_thrown_12 (c1.kk kb (by decide)), c1.ii kb rfl, (jk1.bf (by simp)).1, sX13_thrown_15, ← ce]
  refine q h1 v1 _ _ c1 (by rw [m0]; exact jk1) (fun d hd => ?_) (fun y => by omega)
  rw [cov27 j hd (by omega)]
  simp
theorem th_33 (jbc : JBC r R A T w p0 g U c l L0) (j : JP w g U c l) (hs : As w U s) (hr : 9 - g (U 22 s) ≤ (r + 1 : Nat)) (hX : X.length ≤ 100 * g (U 22 s)) (nd : ∀ x, x ∈ Nd → ¬ uB w U s (U 22 x)) (e : U 20 s = 4) : JTh (r + 1) 229 R A T w p0 U c l L0 Nd X s := by
  intro h v Q cr jk q
  have bd := bo27 j hs (by omega)
  have b6 := (j.1.2.1 s hs).1 (by have := bd.1.1; have := j.2.1.2.2.2.1; omega)
  have ce : c s = sOr (bC U w c (U 27 s)) (bC U w c (U 28 s)) := by
    have := (j.2.2.1 s hs).2.1
    unfold can at this
    rw [if_neg (by omega), if_neg (by omega), if_pos (by omega)] at this
    exact this
  have m0 : mJ0 U w c s = [] := by
    unfold mJ0
    rw [if_neg (by omega), if_neg (by omega), if_neg (by omega), if_neg (by omega)]
  obtain ⟨_, _, _, _, f4, _⟩ := jk.gx.fs hs
  obtain ⟨k1, k2, k3⟩ := f4 e
  rw [eX17_thrown, sX17_thrown_0, sX17_thrown_1 (cr.kk k1 (by decide)), cr.rr k1 rfl, k2, sX17_thrown_4, sX17_thrown_5 (cr.kk (jk.gx.kb bd.1) (by decide))]
  refine jk_blk jbc j hs hr hX nd cr jk bd (by simp) (by simp) (fun y => absurd y b6.2.2.1) (fun h1 v1 N c1 jk1 _ => ?_)
  obtain ⟨_, _, _, _, f4, _⟩ := jk1.gx.fs hs
  obtain ⟨k1, k2, k3⟩ := f4 e
  have kb := jk1.gx.kb bd.1
  rw [Kt_0, sX17_thrown_8, sX17_thrown_9 (c1.kk k1 (by decide)), c1.rr k1 rfl, k3, sX17_thrown_12]
  by_cases z : U 28 s = -1
  · rw [z, optA_n, if_neg (fun y => y rfl), sX17_thrown_15, sX17_thrown_16 (c1.kk k1 (by decide)), c1.rr k1 rfl, k2, sX17_thrown_19 (c1.kk kb (by decide)), c1.ii kb rfl, (jk1.bf (by simp)).1, sX17_thrown_22]
    rw [z, bC_n, sOr_z (bCk j bd.1)] at ce
    rw [← ce]
    refine q h1 v1 _ _ c1 (by rw [m0]; exact jk1) (fun d hd => ?_) (fun y => by omega)
    obtain ⟨a, b⟩ := bo_c j hd
    unfold rsO at a
    by_cases y : U 41 d = 3
    · rw [if_pos y, z] at b
      have := hd.1.1
      have := j.2.1.2.2.2.1
      omega
    · rw [if_neg y, if_neg (by omega), if_neg (by omega)] at b
      simp [b]
  · have bd2 := bo28 j hs z
    have r3 := ((j.1.2.1 s hs).2.1 z).2
    have ne : U 28 s ≠ U 27 s := fun y => b6.2.1 (by rw [← y]; exact r3)
    rw [optA_s z, if_pos (by simp), sX17_thrown_23, sX17_thrown_24 (c1.kk k1 (by decide)), c1.rr k1 rfl, k3, optA_s z, sX17_thrown_27, sX17_thrown_28 (c1.kk (jk1.gx.kb bd2.1) (by decide))]
    refine jk_blk jbc j hs hr hX nd c1 jk1 bd2 (by simp [ne]) (by simp) (fun y => by omega) (fun h2 v2 N2 c2 jk2 _ => ?_)
    obtain ⟨_, _, _, _, f4, _⟩ := jk2.gx.fs hs
    obtain ⟨k1, k2, k3⟩ := f4 e
    have kb := jk2.gx.kb bd.1
    have kb2 := jk2.gx.kb bd2.1
    rw [Kt_0, sX17_thrown_31, sX17_thrown_32 (c2.kk k1 (by decide)), c2.rr k1 rfl, k2, sX17_thrown_35 (c2.kk kb (by decide)), c2.ii kb rfl, (jk2.bf (by simp)).1, sX17_thrown_38, sX17_thrown_39 (c2.kk k1 (by decide)), c2.rr k1 rfl, k3, optA_s z, sX17_thrown_42 (c2.kk kb2 (by decide)), c2.ii kb2 rfl, (jk2.bf (by simp)).1, sX17_thrown_45, iI_or (bCk j bd.1) (bCk j bd2.1), sX17_thrown_46, ← ce]
    refine q h2 v2 _ _ c2 (by rw [m0]; exact jk2) (fun d hd => ?_) (fun y => by omega)
    obtain ⟨a, b⟩ := bo_c j hd
    unfold rsO at a
    by_cases y : U 41 d = 3
    · rw [if_pos y] at b
      simp [b]
    · rw [if_neg y, if_neg (by omega), if_neg (by omega)] at b
      simp [b]
theorem th_37 (jbc : JBC r R A T w p0 g U c l L0) (j : JP w g U c l) (hs : As w U s) (hr : 9 - g (U 22 s) ≤ (r + 1 : Nat)) (hX : X.length ≤ 100 * g (U 22 s)) (nd : ∀ x, x ∈ Nd → ¬ uB w U s (U 22 x)) (e : U 20 s = 10) : JTh (r + 1) 233 R A T w p0 U c l L0 Nd X s := by
  intro h v Q cr jk q
  have qv := j.2.1.2.1
  have qw := j.2.1.2.2.1
  have gs := j.1.2.2.2.2 _ (j.pw.1 s hs)
  have b19 := QV_b qv (f := 19) (c := 120) rfl rfl rfl w
  have b3 := QV_b qv (f := 3) (c := 16) rfl rfl rfl w
  have b30 := QV_b qv (f := 30) (c := 4) rfl rfl rfl s
  have bd := bo27 j hs (by omega)
  have b6 := (j.1.2.1 s hs).1 (by have := bd.1.1; have := j.2.1.2.2.2.1; omega)
  have ce : c s = 0 := by
    have := (j.2.2.1 s hs).2.1
    unfold can at this
    rw [if_neg (by omega), if_neg (by omega), if_neg (by omega), if_neg (by omega)] at this
    exact this
  have m0 : mJ0 U w c s = mUnt U w (bC U w c (U 27 s)) (nmO U w s) (U 21 s) := by
    unfold mJ0
    rw [if_neg (by omega), if_neg (by omega), if_pos e]
  have ml := mUnt_l (w := w) (U := U) (s := bC U w c (U 27 s)) (t := nmO U w s) (a := U 21 s) b3
  obtain ⟨_, _, _, _, _, _, _, _, f10, _⟩ := jk.gx.fs hs
  obtain ⟨k1, k2, _⟩ := f10 e
  rw [eX21_thrown, sX21_thrown_0, sX21_thrown_1 (cr.kk k1 (by decide)), cr.rr k1 rfl, k2, sX21_thrown_4, sX21_thrown_5 (cr.kk (jk.gx.kb bd.1) (by decide))]
  refine jk_blk jbc j hs hr hX nd cr jk bd (by simp) (by simp) (fun y => absurd y b6.2.2.1) (fun h1 v1 N c1 jk1 _ => ?_)
  have gx := jk1.gx
  obtain ⟨_, _, _, _, _, _, _, _, f10, _⟩ := gx.fs hs
  obtain ⟨k1, k2, ln, k6, _, nl⟩ := f10 e
  have kb := gx.kb bd.1
  have es := (gx.2.2.2.2.1 s hs).1
  have k5 := gx.1.1.1
  have kx : KX h1 v1 (R 3) (R 4) U w (A 0) := ⟨c1, gx.1.1, qw⟩
  have nm : nmO U w s = tFor (fun k a => sOr a (sOnly (kO U w (U 31 (4 * s + k)) (U 32 (4 * s + k))))) (U 30 s).toNat 0 0 := by
    unfold nmO
    exact tFor_cg _ _ _ (fun k z _ _ => by rw [if_neg (by omega)])
  rw [Kt_0, sX21_thrown_8, sX21_thrown_9, sX21_thrown_10 (c1.kk k1 (by decide)), c1.rr k1 rfl, k2, sX21_thrown_13 (c1.kk kb (by decide)), c1.ii kb rfl, (jk1.bf (by simp)).1, sX21_thrown_16, sX21_thrown_17, sX21_thrown_18 (c1.kk k1 (by decide)), c1.rr k1 rfl, k6, sX21_thrown_21 (c1.kk k5 (by decide)), c_bitsOf kx nl (by omega) (fun i _ _ => kO_b qw.1), Kt_v, ← nm, sX21_thrown_24, sX21_thrown_25 (c1.kk k1 (by decide)), c1.ii k1 rfl, es.2.2.1, sX21_thrown_28 (c1.kk k5 (by decide))]
  obtain ⟨E0, e1, e2, e3⟩ := SJ_len jk1.1 (fun x _ => mJs_l qv x) b19
  have q21 := qv 21 s
  have q21a : -1 ≤ U 21 s := q21.1
  have q21b : U 21 s ≤ 100000 := q21.2.2 rfl
  have n49 : R 4 ≠ R 9 := fun y => by
    have t4 := gx.2.2.1.2.2.1.1
    have t9 := gx.2.2.2.1.2.2.1
    rw [y, t9] at t4
    omega
  refine c_repor kx gx.1.2.1 n49 e1.1 (by omega) (bCk j bd.1) (nmO_ok qw) ⟨q21a, by omega⟩ (fun h2 v2 c2 F2 m2 => ?_)
  obtain ⟨jk2, _⟩ := jk_mi j hs jk1 e2 e1 F2 m2 (by omega) (by rw [List.nil_append]; omega)
  rw [Kt_0, sX21_thrown_31, sX21_thrown_32]
  have := q h2 v2 _ _ c2 (by rw [m0]; exact jk2) (fun d hd => by
    rw [cov27 j hd (by omega)]
    simp) (fun y => by omega)
  rw [ce] at this
  exact this
end JT1
