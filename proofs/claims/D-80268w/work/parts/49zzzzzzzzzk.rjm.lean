/-! COMPONENT, 126: Reader.judge (86), the methods *-/
section RJM
variable {R : Nat → Nat} {A : Nat → Int → Nat} {T : Nat → Nat} {w p0 b : Int} {U : tSt} {c l g : Int → Int} {L0 X : List tMi} {v0 v v' : vT} {n0 : Nat} {P : Int → Prop} {Nd : List Int} {r : Nat} {h : am_H} {Q : am_O → am_H → Prop} {l1 l2 l3 l4 : Option am_V}
theorem mJM_l (qv : QV U) {m : Int} : (mJM U w c m).length ≤ 20 := by
  have b3 := QV_b qv (f := 3) (c := 16) rfl rfl rfl w
  have b15 := QV_b qv (f := 15) (c := 4) rfl rfl rfl (w * 12 + m)
  have a := mUnt_l (w := w) (U := U) (s := bC U w c (U 18 (w * 12 + m))) (t := thO U w m) (a := U 11 (w * 12 + m)) b3
  have d := tCat_len (f := mTj U w (w * 12 + m) (mOver U w (w * 12 + m))) (n := 1) (U 15 (w * 12 + m)).toNat 0 (fun k _ _ => by
    unfold mTj
    split
    · exact Nat.zero_le _
    · exact if_l1')
  unfold mJM
  rw [List.length_append]
  omega
theorem SJ_mv (sj : SJ R A T w p0 U c l L0 v Nd X) (hl : L0.length + X.length ≤ 3800) : SJ R A T w p0 U c l (L0 ++ X) v Nd [] := by
  obtain ⟨gu, ⟨E, e1, e2⟩, nd, x1, x2⟩ := sj
  refine ⟨gu, ⟨Nd.flatMap (mJs U w c l), ?_, by rw [List.append_nil]⟩, nd, by rw [List.length_append]; exact hl, Nat.zero_le _⟩
  have p : (L0 ++ E).Perm (L0 ++ X ++ Nd.flatMap (mJs U w c l)) := by
    rw [List.append_assoc]
    exact List.Perm.append_left _ (e2.trans List.perm_append_comm)
  rw [← insA_perm p]
  exact e1
/-- behind the body of a method -/
theorem rj_end (j : JP w g U c l) {k : Nat} (hm : (k : Int) < U 9 w) (hl : L0.length ≤ 3400) {h : am_H} {v : vT} {Nd : List Int} (cr : CR h v) (ri : RIj R A T w p0 U c l (L0 ++ tCat (mJM U w c) k 0) v0 ((Nd.flatMap (mJs U w c l)).length + (tCat (mJM U w c) k 0).length) (mU w U (k + 1 : Nat)) Nd v (mUnt U w (bC U w c (U 18 (w * 12 + (k : Int)))) (thO U w k) (U 11 (w * 12 + (k : Int)))))
    (q : ∀ h' v' l2 l3 l4, CR h' v' → RIj R A T w p0 U c l (L0 ++ tCat (mJM U w c) (k + 1) 0) v0 ((Nd.flatMap (mJs U w c l)).length + (tCat (mJM U w c) (k + 1) 0).length) (mU w U (k + 1 : Nat)) Nd v' [] → Rn r 86 2 [some (vR (some (R 0))), some (vI (iI ((k + 1 : Nat) : Int))), l2, l3, l4] [] h' Q) :
    Rn r 86 78 [some (vR (some (R 0))), some (vI (iI (k : Int))), some (vR (some (A 1 k))), l3, l4] [] h Q := by
  have qv := j.2.1.2.1
  have b3 := QV_b qv (f := 3) (c := 16) rfl rfl rfl w
  have b9 := QV_b qv (f := 9) (c := 12) rfl rfl rfl w
  have b15 := QV_b qv (f := 15) (c := 4) rfl rfl rfl (w * 12 + (k : Int))
  have ml := mUnt_l (w := w) (U := U) (s := bC U w c (U 18 (w * 12 + (k : Int)))) (t := thO U w k) (a := U 11 (w * 12 + (k : Int))) b3
  have jl := mJM_l (w := w) (c := c) (m := k) qv
  have tl := tCat_len (f := mJM U w c) (n := 20) k 0 (fun m _ _ => mJM_l qv)
  have ej : iI (k : Int) + (1 : Int32) = iI ((k + 1 : Nat) : Int) := by rw [i_1, iI_add]; rfl
  rw [sX1_judge_78, sX1_judge_79]
  refine rj_told j ⟨by omega, hm⟩ (U 15 (w * 12 + (k : Int))).toNat 0 h v _ _ (Int.le_refl _) (by omega) (by omega) cr ri (fun h' v' l3 l4 c' ri' => ?_)
  rw [sX1_judge_191, ej, sX1_judge_194]
  refine q h' v' _ _ _ c' ?_
  have ri2 : RIj R A T w p0 U c l (L0 ++ tCat (mJM U w c) k 0) v0 ((Nd.flatMap (mJs U w c l)).length + (tCat (mJM U w c) k 0).length) (mU w U (k + 1 : Nat)) Nd v' (mJM U w c k) := ri'
  obtain ⟨sj, jd, rm, fw, r0⟩ := ri2
  have e1 : tCat (mJM U w c) (k + 1) 0 = tCat (mJM U w c) k 0 ++ mJM U w c k := by rw [tCat_sn, Int.zero_add]
  rw [e1, ← List.append_assoc]
  refine ⟨SJ_mv sj (by rw [List.length_append]; omega), jd, ?_, fw, r0⟩
  rw [List.length_append, List.length_nil]
  exact rm.le (by omega) (by omega)
theorem rj_loop (j : JP w g U c l) (hr : 8 ≤ r) (hl : L0.length ≤ 3400) (q : ∀ h' v' Nd, CR h' v' → RIj R A T w p0 U c l (L0 ++ tCat (mJM U w c) (U 9 w).toNat 0) v0 ((Nd.flatMap (mJs U w c l)).length + (tCat (mJM U w c) (U 9 w).toNat 0).length) (mU w U (U 9 w)) Nd v' [] → JN w U Nd (fun x => mU w U (U 9 w) (U 22 x)) → Q (Sum.inl none) h') :
    ∀ (n k : Nat) (h : am_H) (v : vT) (Nd : List Int) (l2 l3 l4 : Option am_V), k + n = (U 9 w).toNat → CR h v → RIj R A T w p0 U c l (L0 ++ tCat (mJM U w c) k 0) v0 ((Nd.flatMap (mJs U w c l)).length + (tCat (mJM U w c) k 0).length) (mU w U k) Nd v [] → JN w U Nd (fun x => mU w U k (U 22 x)) →
    Rn (r + 1) 86 2 [some (vR (some (R 0))), some (vI (iI (k : Int))), l2, l3, l4] [] h Q := by
  have pw := j.pw
  have qv := j.2.1.2.1
  have qw := j.2.1.2.2.1
  have w0 := j.2.1.2.2.2.1
  have b3 := QV_b qv (f := 3) (c := 16) rfl rfl rfl w
  have b9 := QV_b qv (f := 9) (c := 12) rfl rfl rfl w
  have b19 := QV_b qv (f := 19) (c := 120) rfl rfl rfl w
  intro n
  induction n with
  | zero =>
    intro k h v Nd l2 l3 l4 hk cr ri jn
    have gx : GX R A T w p0 v U := ri.1.1
    have k0 := ri.2.2.2.2.1
    have r07 := ri.2.2.2.2.2
    have ku := gx.1.1.1
    obtain ⟨r2, k6, v6⟩ := gx.2.2.1.1
    have len : (vLs v (R 6)).length = (U 9 w).toNat := by rw [v6, rowL_len]
    have ek : k = (U 9 w).toNat := by omega
    rw [sX1_judge_2, sX1_judge_3, sX1_judge_4 (cr.kk k0 (by decide)), cr.rr k0 rfl, r07, sX1_judge_7 (cr.kk ku (by decide)), cr.rr ku rfl, r2, sX1_judge_10 (cr.kk k6 (by decide)), v_size cr k6, Kt_v, sX1_judge_13, len, if_pos (by rw [iI_le (by omega) (by omega) (by omega) (by omega)]; omega), sX1_judge_197]
    rw [ek, show (((U 9 w).toNat : Nat) : Int) = U 9 w by omega] at ri jn
    exact q h v Nd cr ri jn
  | succ n ih =>
    intro k h v Nd l2 l3 l4 hk cr ri jn
    have gx : GX R A T w p0 v U := ri.1.1
    have k0 := ri.2.2.2.2.1
    have r07 := ri.2.2.2.2.2
    have ku := gx.1.1.1
    obtain ⟨r2, k6, v6⟩ := gx.2.2.1.1
    have km9 : (k : Int) < U 9 w := by omega
    have len : (vLs v (R 6)).length = (U 9 w).toNat := by rw [v6, rowL_len]
    have ge : (vLs v (R 6)).getD ((k : Int)).toNat none = some (A 1 k) := by rw [v6, rowL_get (by omega) km9, Int.zero_add]
    obtain ⟨km, _, _, _, _, _, _, _, r8⟩ := gx.2.2.1.2.2.2 (k : Int) (by omega) km9
    rw [sX1_judge_2, sX1_judge_3, sX1_judge_4 (cr.kk k0 (by decide)), cr.rr k0 rfl, r07, sX1_judge_7 (cr.kk ku (by decide)), cr.rr ku rfl, r2, sX1_judge_10 (cr.kk k6 (by decide)), v_size cr k6, Kt_v, sX1_judge_13, len, if_neg (by rw [iI_le (by omega) (by omega) (by omega) (by omega)]; omega), sX1_judge_16, sX1_judge_17 (cr.kk k0 (by decide)), cr.rr k0 rfl, r07, sX1_judge_20 (cr.kk ku (by decide)), cr.rr ku rfl, r2, sX1_judge_23, sX1_judge_24 (cr.kk k6 (by decide)), v_get cr k6 (by omega) (by rw [len]; omega), Kt_v, ge, sX1_judge_27 (by rw [cr.kk km (by decide)]; decide), sX1_judge_30, sX1_judge_31, sX1_judge_32 (cr.kk km (by decide)), cr.rr km rfl, r8, sX1_judge_35]
    by_cases z : U 18 (w * 12 + (k : Int)) = -1
    · have mk : ∀ b, mU w U (k + 1 : Nat) b ↔ mU w U k b := fun b => by
        constructor
        · rintro ⟨m, m0, m1, m2, m3⟩
          refine ⟨m, m0, ?_, m2, m3⟩
          by_cases e : m = k
          · rw [e] at m2; exact absurd z m2
          · omega
        · rintro ⟨m, m0, m1, m2, m3⟩
          exact ⟨m, m0, by omega, m2, m3⟩
      rw [z, optA_n, if_pos rfl]
      refine rj_end j km9 hl cr ?_ (fun h' v' l2 l3 l4 c' ri' => ih (k + 1) h' v' Nd l2 l3 l4 (by omega) c' ri' ⟨jn.1, fun x => (jn.2 x).trans ⟨fun y => ⟨y.1, (mk _).mpr y.2⟩, fun y => ⟨y.1, (mk _).mp y.2⟩⟩⟩)
      rw [z, bC_n, mUnt_0]
      obtain ⟨sj, jd, rm, fw, r0⟩ := ri
      exact ⟨sj, ⟨fun b hb y => jd.1 b hb ((mk b).mp y), fun x hx y => jd.2 x hx ((mk _).mp y)⟩, rm, fw, r0⟩
    · obtain ⟨bA, b41, b43⟩ := j.1.2.2.1 (k : Int) (by omega) km9 z
      have gb := j.1.2.2.2.2 _ bA
      have kb := gx.kb bA
      obtain ⟨sj, jd, rm, fw, r0⟩ := ri
      have dis : ∀ b, mU w U k b → ¬ anc U b (U 18 (w * 12 + (k : Int))) := fun b ⟨m, m0, m1, m2, m3⟩ y => by
        obtain ⟨i1, y⟩ := y
        obtain ⟨i2, m3⟩ := m3
        obtain ⟨_, c41, c43⟩ := j.1.2.2.1 m m0 (by omega) m2
        have := root_un i1 i2 b _ _ y m3 b41 c41
        rw [this] at b43
        omega
      rw [optA_s z, if_neg (by simp), sX1_judge_38, sX1_judge_39 (cr.kk km (by decide)), cr.rr km rfl, r8, optA_s z, sX1_judge_42, sX1_judge_43 (cr.kk k0 (by decide)), cr.rr k0 rfl, r07, sX1_judge_46 (cr.kk kb (by decide))]
      refine JBC_all j r h v Nd [] _ _ cr sj bA (by omega) (by rw [List.length_nil]; omega) (fun d hd a h6 => ?_) (fun x hx y => dis _ ((jn.2 x).mp hx).2 y) (fun h1 v1 N c1 sj1 jn1 jd1 jf1 rm1 fw1 => ?_)
      · obtain ⟨i, a⟩ := a
        cases i with
        | zero => have e : U 18 (w * 12 + (k : Int)) = d := a; rw [← e, b41] at h6; omega
        | succ i => exact absurd b41 a.1
      · have gx1 : GX R A T w p0 v1 U := sj1.1
        have r01 := RIj_r0 fw1 r0
        have ku1 := gx1.1.1.1
        have kx1 : KX h1 v1 (R 3) (R 4) U w (A 0) := ⟨c1, gx1.1.1, qw⟩
        have kb1 := gx1.kb bA
        obtain ⟨km1, _, i2, _, _, _, _, ⟨ln, r7, _, nl⟩, r81⟩ := gx1.2.2.1.2.2.2 (k : Int) (by omega) km9
        have b15 := QV_b qv (f := 15) (c := 4) rfl rfl rfl (w * 12 + (k : Int))
        have kn : (k : Int) ≠ -1 := by omega
        rw [Kt_0, sX1_judge_49, sX1_judge_50 (c1.kk r01.1 (by decide)), c1.rr r01.1 rfl, r01.2, sX1_judge_53, sX1_judge_54 (c1.kk km1 (by decide)), c1.rr km1 rfl, r81, optA_s z, sX1_judge_57 (c1.kk kb1 (by decide)), c1.ii kb1 rfl, (jd1.1 _ bA anc_rf).1, sX1_judge_60, sX1_judge_61 (c1.kk r01.1 (by decide)), c1.rr r01.1 rfl, r01.2, sX1_judge_64, sX1_judge_65 (c1.kk km1 (by decide)), c1.rr km1 rfl, r7, sX1_judge_68 (c1.kk ku1 (by decide)), c_bitsOf kx1 nl (by omega) (fun i _ _ => kO_b qw.1), Kt_v, ← thO_m kn, sX1_judge_71, sX1_judge_72 (c1.kk km1 (by decide)), c1.ii km1 rfl, i2, sX1_judge_75 (c1.kk ku1 (by decide))]
        obtain ⟨E0, e1, e2, e3⟩ := SJ_len sj1 (fun x _ => mJs_l qv x) b19
        have q11 := qv 11 (w * 12 + (k : Int))
        have q11a : -1 ≤ U 11 (w * 12 + (k : Int)) := Int.le_trans (by decide) q11.1
        have q11b : U 11 (w * 12 + (k : Int)) ≤ 100000 := q11.2.2 rfl
        have n49 : R 4 ≠ R 9 := fun y => by
          have t4 := gx1.2.2.1.2.2.1.1
          have t9 := gx1.2.2.2.1.2.2.1
          rw [y, t9] at t4
          omega
        have ml := mUnt_l (w := w) (U := U) (s := bC U w c (U 18 (w * 12 + (k : Int)))) (t := thO U w k) (a := U 11 (w * 12 + (k : Int))) b3
        refine c_repor kx1 gx1.1.2.1 n49 e1.1 (by omega) (bCk j bA) (thO_ok qw) ⟨q11a, q11b⟩ (fun h2 v2 c2 F2 m2 => ?_)
        rw [Kt_0]
        have jd' := jd.keep jf1 pw (fun b _ y => dis b y) (fun _ _ _ y => y)
        have mk : ∀ b, mU w U (k + 1 : Nat) b → mU w U k b ∨ anc U b (U 18 (w * 12 + (k : Int))) := fun b ⟨m, m0, m1, m2, m3⟩ => by
          by_cases e : m = k
          · rw [e] at m3; exact Or.inr m3
          · exact Or.inl ⟨m, m0, by omega, m2, m3⟩
        have ri1 : RIj R A T w p0 U c l (L0 ++ tCat (mJM U w c) k 0) v0 (((Nd ++ N).flatMap (mJs U w c l)).length + (tCat (mJM U w c) k 0).length) (mU w U (k + 1 : Nat)) (Nd ++ N) v1 [] := by
          refine ⟨sj1, ⟨fun b hb y => ?_, fun x hx y => ?_⟩, ?_, XLk_tr fw fw1, r01⟩
          · rcases mk b y with y | y
            · exact jd'.1 b hb y
            · exact jd1.1 b hb y
          · rcases mk _ y with y | y
            · exact jd'.2 x hx y
            · exact jd1.2 x hx y
          · rw [List.flatMap_append, List.length_append, List.length_nil]
            rw [List.length_nil] at rm
            exact (rm.trans rm1).le (by omega) (by omega)
        have ri2 := ri_mi pw ri1 e2 e1 F2 m2 (by rw [List.nil_append]; omega)
        rw [List.nil_append] at ri2
        refine rj_end j km9 hl c2 ri2 (fun h' v' l2 l3 l4 c' ri' => ih (k + 1) h' v' (Nd ++ N) l2 l3 l4 (by omega) c' ri' ⟨?_, fun x => ?_⟩)
        · rw [List.nodup_append]
          refine ⟨jn.1, jn1.1, fun x hx y hy e => ?_⟩
          rw [← e] at hy
          exact dis _ ((jn.2 x).mp hx).2 ((jn1.2 x).mp hy).2
        · rw [List.mem_append, jn.2 x, jn1.2 x]
          constructor
          · rintro (⟨a, m, m0, m1, m2, m3⟩ | ⟨a, a1⟩)
            · exact ⟨a, m, m0, by omega, m2, m3⟩
            · exact ⟨a, k, by omega, by omega, z, a1⟩
          · rintro ⟨a, a1⟩
            rcases mk _ a1 with y | y
            · exact Or.inl ⟨a, y⟩
            · exact Or.inr ⟨a, y⟩
end RJM
