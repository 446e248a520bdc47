/-! COMPONENT, 124: thrown of a try, joined; every statement and block can be judged *-/
section JT5
variable {R : Nat → Nat} {A : Nat → Int → Nat} {T : Nat → Nat} {w p0 s d cc : Int} {U : tSt} {c l g : Int → Int} {L0 X Z : List tMi} {v0 v v' : vT} {Nd N Bs : List Int} {r : Nat} {h : am_H} {Q : am_O → am_H → Prop} {l2 l3 l4 l5 : Option am_V}
/-- the blocks of a try that are judged when k catches are -/
def TB (w : Int) (U : tSt) (s k : Int) (Bs : List Int) : Prop := (∀ d, d ∈ Bs → U 41 d = 6 → U 43 d < k) ∧ U 27 s ∈ Bs ∧ (U 29 s ≠ -1 → U 29 s ∈ Bs) ∧ ∀ i, 0 ≤ i → i < k → U 34 (4 * s + i) ∈ Bs
/-- mistakes of the first k catches -/
def TZm (U : tSt) (w : Int) (c : Int → Int) (s : Int) (k : Nat) : List tMi := tCat (fun i => tCat (mCj U w (chO U w (ins U w c s)) (4 * s + i)) (U 37 (4 * s + i)).toNat 0) k 0
theorem TZm_l (qv : QV U) {k : Nat} : (TZm U w c s k).length ≤ 12 * k := by
  have := tCat_len (f := fun i => tCat (mCj U w (chO U w (ins U w c s)) (4 * s + i)) (U 37 (4 * s + i)).toNat 0) (n := 12) k 0 (fun k _ _ => by
    have b37 := QV_b qv (f := 37) (c := 4) rfl rfl rfl (4 * s + k)
    have := tCat_len (f := mCj U w (chO U w (ins U w c s)) (4 * s + k)) (n := 3) (U 37 (4 * s + k)).toNat 0 (fun j _ _ => mCj_l)
    omega)
  unfold TZm
  omega
theorem TZm_s {k : Nat} : TZm U w c s (k + 1) = TZm U w c s k ++ tCat (mCj U w (chO U w (ins U w c s)) (4 * s + (k : Int))) (U 37 (4 * s + (k : Int))).toNat 0 := by
  unfold TZm
  rw [tCat_sn, Int.zero_add]
theorem ahd_e {k : Nat} (hk : k < 4) : ahd U w (4 * s + (k : Int)) = tFor (fun k a => sOr a (cBy U w (4 * s + k))) k 0 0 := by
  unfold ahd
  rw [show (4 * s + (k : Int)) / 4 = s by omega, show (4 * s + (k : Int) - s * 4).toNat = k by omega]
  have : ∀ (n : Nat) (i a : Int), tFor (fun k a => sOr a (cBy U w k)) n (s * 4 + i) a = tFor (fun k a => sOr a (cBy U w (4 * s + k))) n i a := by
    intro n
    induction n with
    | zero => intro i a; rfl
    | succ n ih =>
      intro i a
      rw [tFor, tFor, show s * 4 + i + 1 = s * 4 + (i + 1) by omega, ih, show s * 4 + i = 4 * s + i by omega]
  have := this k 0 0
  rw [Int.add_zero] at this
  exact this
theorem tr_ct (jbc : JBC r R A T w p0 g U c l L0) (j : JP w g U c l) (hs : As w U s) (hr : 9 - g (U 22 s) ≤ (r + 1 : Nat)) (hX : X.length ≤ 100 * g (U 22 s)) (nd : ∀ x, x ∈ Nd → ¬ uB w U s (U 22 x)) (e : U 20 s = 9)
    (q : ∀ h' v' N' Bs' l4 l5, CR h' v' → JK R A T w p0 U c l L0 Nd X s v0 v' N' (TZm U w c s (U 33 s).toNat) Bs' → TB w U s (U 33 s) Bs' → IF A w U c v' s → Rn (r + 1) 232 174 [some (vR (some (A 2 s))), some (vR (some (R 3))), some (vI (iI (trA U w s))), some (vI (iI (trM U w c s))), l4, l5] [] h' Q) :
    ∀ (n k : Nat) (h : am_H) (v : vT) (N Bs : List Int) (l5 : Option am_V), k + n = (U 33 s).toNat → CR h v → JK R A T w p0 U c l L0 Nd X s v0 v N (TZm U w c s k) Bs → TB w U s k Bs → IF A w U c v s →
    Rn (r + 1) 232 102 [some (vR (some (A 2 s))), some (vR (some (R 3))), some (vI (iI (tFor (fun k a => sOr a (cBy U w (4 * s + k))) k 0 0))), some (vI (iI (tFor (fun k a => sOr a (bC U w c (U 34 (4 * s + k)))) k 0 0))), some (vI (iI (k : Int))), l5] [] h Q := by
  have qv := j.2.1.2.1
  have qw := j.2.1.2.2.1
  have gs := j.1.2.2.2.2 _ (j.pw.1 s hs)
  have x8 : X.length ≤ 800 := by omega
  have b33 := QV_b qv (f := 33) (c := 4) rfl rfl rfl s
  intro n
  induction n with
  | zero =>
    intro k h v N Bs l5 hk cr jk tb hi
    obtain ⟨k1, k2, k3, _, l9, k9, r9, v9⟩ := FS9 jk.gx hs e
    have len : (vLs v l9).length = (U 33 s).toNat := by rw [v9, rowL_len]
    have ek : k = (U 33 s).toNat := by omega
    rw [sX20_thrown_102, sX20_thrown_104, sX20_thrown_105 (cr.kk k1 (by decide)), cr.rr k1 rfl, r9, sX20_thrown_108 (cr.kk k9 (by decide)), v_size cr k9, Kt_v, sX20_thrown_111, len, if_pos (by rw [iI_le (by omega) (by omega) (by omega) (by omega)]; omega)]
    rw [ek] at jk tb ⊢
    rw [show ((U 33 s).toNat : Int) = U 33 s by omega] at tb
    exact q h v N Bs _ _ cr jk tb hi
  | succ n ih =>
    intro k h v N Bs l5 hk cr jk tb hi
    have gx := jk.gx
    obtain ⟨k1, k2, k3, _, l9, k9, r9, v9⟩ := FS9 gx hs e
    have len : (vLs v l9).length = (U 33 s).toNat := by rw [v9, rowL_len]
    have ge : (vLs v l9).getD ((k : Int)).toNat none = some (A 4 (4 * s + (k : Int))) := by rw [v9, rowL_get (by omega) (by omega)]
    have hc : As w U ((4 * s + (k : Int)) / 4) ∧ (4 * s + (k : Int)) % 4 < U 33 ((4 * s + (k : Int)) / 4) := by
      rw [show (4 * s + (k : Int)) / 4 = s by omega]
      exact ⟨hs, by omega⟩
    have bd := bo34 j hs (k := k) (by omega) (by omega)
    have z6 := ((j.1.2.1 s hs).2.2.2 k (by omega) (by omega)).2
    have kc := (CFx gx hc).1.1
    have zl := TZm_l (w := w) (c := c) (s := s) (k := k) qv
    have b37 := QV_b qv (f := 37) (c := 4) rfl rfl rfl (4 * s + (k : Int))
    have oa : sOk (tFor (fun k a => sOr a (cBy U w (4 * s + k))) k 0 0) := tFor_okk (fun k a _ _ ha => sOr_ok ha (cBy_ok qw)) _ _ _ (Int.le_refl _) (by omega) sOk0
    have om : sOk (tFor (fun k a => sOr a (bC U w c (U 34 (4 * s + k)))) k 0 0) := tFor_okr (fun k a => sOr a (bC U w c (U 34 (4 * s + k)))) sOk (k : Int) (fun k' a h0 h1 ha => sOr_ok ha (bCk j (bo34 j hs h0 (by omega)).1)) _ _ _ (Int.le_refl _) (by omega) sOk0
    rw [sX20_thrown_102, sX20_thrown_104, sX20_thrown_105 (cr.kk k1 (by decide)), cr.rr k1 rfl, r9, sX20_thrown_108 (cr.kk k9 (by decide)), v_size cr k9, Kt_v, sX20_thrown_111, len, if_neg (by rw [iI_le (by omega) (by omega) (by omega) (by omega)]; omega), sX20_thrown_114, sX20_thrown_115 (cr.kk k1 (by decide)), cr.rr k1 rfl, r9, sX20_thrown_118, sX20_thrown_120 (cr.kk k9 (by decide)), v_get cr k9 (by omega) (by rw [len]; omega), Kt_v, ge, sX20_thrown_123 (by rw [cr.kk kc (by decide)]; decide), sX20_thrown_126, sX20_thrown_128, sX20_thrown_129, sX20_thrown_130, sX20_thrown_132, sX20_thrown_133 (cr.kk k1 (by decide)), ← ahd_e (by omega)]
    refine c_jcat j hs e x8 hc cr jk hi (by omega) (fun h1 v1 c1 jk1 hi1 => ?_)
    rw [← TZm_s] at jk1
    have gx1 := jk1.gx
    obtain ⟨⟨kc1, _, _, _, lc, rc, _, nl⟩, _, r3⟩ := CFx gx1 hc
    have kx1 : KX h1 v1 (R 3) (R 4) U w (A 0) := ⟨c1, gx1.1.1, qw⟩
    have k51 := gx1.1.1.1
    have kb1 := gx1.kb bd.1
    have zl1 := TZm_l (w := w) (c := c) (s := s) (k := k + 1) qv
    rw [Kt_0, sX20_thrown_136, sX20_thrown_137, sX20_thrown_138, sX20_thrown_140 (c1.kk kc1 (by decide)), c1.rr kc1 rfl, rc, sX20_thrown_143 (c1.kk k51 (by decide)), c_bitsOf kx1 nl (by omega) (fun i _ _ => kO_b qw.1), Kt_v, sX20_thrown_146]
    have cb : tFor (fun i a => sOr a (sOnly (cK U w (4 * s + (k : Int)) i))) (U 37 (4 * s + (k : Int))).toNat 0 0 = cBy U w (4 * s + (k : Int)) := rfl
    rw [cb, ahd_e (by omega), iI_or oa (cBy_ok qw), sX20_thrown_147, sX20_thrown_148, sX20_thrown_150 (c1.kk kc1 (by decide)), c1.rr kc1 rfl, r3, sX20_thrown_153, sX20_thrown_154 (c1.kk kb1 (by decide))]
    refine jk_blk jbc j hs hr hX nd c1 jk1 bd (fun y => by have := tb.1 _ y z6.1; omega) (by omega) (fun _ => hi1) (fun h2 v2 N2 c2 jk2 k11 => ?_)
    have gx2 := jk2.gx
    obtain ⟨⟨kc2, _⟩, _, r3⟩ := CFx gx2 hc
    have kb2 := gx2.kb bd.1
    have ej : iI (k : Int) + (1 : Int32) = iI ((k + 1 : Nat) : Int) := by rw [i_1, iI_add]; rfl
    rw [Kt_0, sX20_thrown_157, sX20_thrown_158, sX20_thrown_160 (c2.kk kc2 (by decide)), c2.rr kc2 rfl, r3, sX20_thrown_163 (c2.kk kb2 (by decide)), c2.ii kb2 rfl, (jk2.bf (by simp)).1, sX20_thrown_166, iI_or om (bCk j bd.1), sX20_thrown_167, sX20_thrown_168, ej, sX20_thrown_171]
    have s1 : sOr (tFor (fun k a => sOr a (cBy U w (4 * s + k))) k 0 0) (cBy U w (4 * s + (k : Int))) = tFor (fun k a => sOr a (cBy U w (4 * s + k))) (k + 1) 0 0 := by rw [tFor_sn, Int.zero_add]
    have s2 : sOr (tFor (fun k a => sOr a (bC U w c (U 34 (4 * s + k)))) k 0 0) (bC U w c (U 34 (4 * s + (k : Int)))) = tFor (fun k a => sOr a (bC U w c (U 34 (4 * s + k)))) (k + 1) 0 0 := by rw [tFor_sn, Int.zero_add]
    rw [s1, s2]
    refine ih (k + 1) h2 v2 _ _ _ (by omega) c2 jk2 ⟨fun d hd h6 => ?_, ?_, fun y => ?_, fun i i0 i1 => ?_⟩ (by unfold IF; rw [k11]; exact hi1)
    · rcases List.mem_append.mp hd with y | y
      · have := tb.1 d y h6
        omega
      · simp at y
        rw [y, z6.2]
        omega
    · exact List.mem_append.mpr (Or.inl tb.2.1)
    · exact List.mem_append.mpr (Or.inl (tb.2.2.1 y))
    · by_cases y : i = k
      · rw [y]; simp
      · exact List.mem_append.mpr (Or.inl (tb.2.2.2 i i0 (by omega)))
theorem th_36b (jbc : JBC r R A T w p0 g U c l L0) (j : JP w g U c l) (hs : As w U s) (hr : 9 - g (U 22 s) ≤ (r + 1 : Nat)) (hX : X.length ≤ 100 * g (U 22 s)) (nd : ∀ x, x ∈ Nd → ¬ uB w U s (U 22 x)) (e : U 20 s = 9) (cr : CR h v) (jk : JK R A T w p0 U c l L0 Nd X s v0 v N [] Bs) (hB : ∀ d, d ∈ Bs → d = U 29 s) (hB2 : U 29 s ≠ -1 → U 29 s ∈ Bs)
    (q : ∀ h' v' N Bs, CR h' v' → JK R A T w p0 U c l L0 Nd X s v0 v' N (mJ0 U w c s) Bs → (∀ d, bo w U s d → d ∈ Bs) → (U 20 s = 9 → IF A w U c v' s) → Q (Sum.inl (some (vI (iI (c s))))) h') :
    Rn (r + 1) 232 15 [some (vR (some (A 2 s))), some (vR (some (R 3))), l2, l3, l4, l5] [] h Q := by
  have qv := j.2.1.2.1
  have qw := j.2.1.2.2.1
  have w0 := j.2.1.2.2.2.1
  have b30 := QV_b qv (f := 30) (c := 4) rfl rfl rfl s
  have b33 := QV_b qv (f := 33) (c := 4) rfl rfl rfl s
  have bd := bo27 j hs (by omega)
  have b6 := (j.1.2.1 s hs).1 (by have := bd.1.1; omega)
  obtain ⟨k1, k2, k3, _⟩ := FS9 jk.gx hs e
  have n29 : U 27 s ∉ Bs := fun y => by
    have e1 := hB _ y
    have z : U 29 s ≠ -1 := by rw [← e1]; have := bd.1.1; omega
    have := ((j.1.2.1 s hs).2.2.1 z).2
    rw [← e1] at this
    exact b6.2.2.2 this
  rw [sX20_thrown_15, sX20_thrown_16 (cr.kk k1 (by decide)), cr.rr k1 rfl, k2, sX20_thrown_19, sX20_thrown_20 (cr.kk (jk.gx.kb bd.1) (by decide))]
  refine jk_blk jbc j hs hr hX nd cr jk bd n29 (by simp) (fun y => absurd y b6.2.2.1) (fun h1 v1 N1 c1 jk1 _ => ?_)
  obtain ⟨k1, k2, k3, _⟩ := FS9 jk1.gx hs e
  have kb1 := jk1.gx.kb bd.1
  rw [Kt_0, sX20_thrown_23, sX20_thrown_24, sX20_thrown_25 (c1.kk k1 (by decide)), c1.rr k1 rfl, k2, sX20_thrown_28 (c1.kk kb1 (by decide)), c1.ii kb1 rfl, (jk1.bf (by simp)).1, sX20_thrown_31 (c1.kk k1 (by decide)), sX20_thrown_34, sX20_thrown_35]
  have c2 := CR_pI (k := 11) (x := iI (bC U w c (U 27 s))) c1 k1 rfl
  obtain ⟨jk2, f11, _⟩ := jk_ps (k := 11) (x := iI (bC U w c (U 27 s))) j hs jk1 (Or.inr (Or.inr rfl))
  refine tr_cl j hs e (U 30 s).toNat 0 _ _ _ (Int.le_refl _) (by omega) (bCk j bd.1) c2 jk2 f11 (fun h3 v3 l2' c3 jk3 i3 => ?_)
  have i3' : IF A w U c v3 s := by
    unfold IF ins
    rw [i3, tFor_sOr _ _ _ (bCk j bd.1).1]
    congr 2
    unfold nmO
    exact tFor_cg _ _ _ (fun k z _ _ => by rw [if_pos e])
  rw [sX20_thrown_95, sX20_thrown_96, sX20_thrown_97, sX20_thrown_98, sX20_thrown_99, sX20_thrown_100]
  refine tr_ct jbc j hs hr hX nd e (fun h4 v4 N4 B4 l4' l5' c4 jk4 tb4 i4 => ?_) (U 33 s).toNat 0 h3 v3 _ _ _ (by omega) c3 jk3 ⟨fun d hd h6 => ?_, by simp, fun y => List.mem_append.mpr (Or.inl (hB2 y)), fun i i0 i1 => by omega⟩ i3'
  · refine tr_e j hs e c4 jk4 i4 tb4.2.2.1 (q h4 v4 N4 B4 c4 ?_ (fun d hd => ?_) (fun _ => i4))
    · have m0 : mJ0 U w c s = TZm U w c s (U 33 s).toNat := by
        unfold mJ0 TZm
        rw [if_neg (by omega), if_pos e]
      rw [m0]
      exact jk4
    · obtain ⟨a, b⟩ := bo_c j hd
      unfold rsO at a
      rw [if_neg (by omega)] at b
      by_cases y7 : U 41 d = 7
      · rw [if_pos y7] at b
        rw [b]
        exact tb4.2.2.1 (by rw [← b]; have := hd.1.1; omega)
      · rw [if_neg y7] at b
        by_cases y6 : U 41 d = 6
        · rw [if_pos y6] at b
          have b43 := (j.pw.2 d hd.1).2 y6
          rw [hd.2.1] at b43
          rw [b]
          exact tb4.2.2.2 _ b43.1 b43.2
        · rw [if_neg y6] at b
          rw [b]
          exact tb4.2.1
  · rcases List.mem_append.mp hd with y | y
    · have e1 := hB d y
      have hd29 := (jk.2.1 d y)
      have z : U 29 s ≠ -1 := by rw [← e1]; have := hd29.1.1; omega
      have := ((j.1.2.1 s hs).2.2.1 z).2
      rw [← e1] at this
      omega
    · simp at y
      rw [y] at h6
      exact absurd h6 b6.2.2.1
theorem th_36 (jbc : JBC r R A T w p0 g U c l L0) (j : JP w g U c l) (hs : As w U s) (hr : 9 - g (U 22 s) ≤ (r + 1 : Nat)) (hX : X.length ≤ 100 * g (U 22 s)) (nd : ∀ x, x ∈ Nd → ¬ uB w U s (U 22 x)) (e : U 20 s = 9) : JTh (r + 1) 232 R A T w p0 U c l L0 Nd X s := by
  intro h v Q cr jk q
  obtain ⟨k1, k2, k3, _⟩ := FS9 jk.gx hs e
  rw [eX20_thrown, sX20_thrown_0, sX20_thrown_1 (cr.kk k1 (by decide)), cr.rr k1 rfl, k3, sX20_thrown_4]
  by_cases z : U 29 s = -1
  · rw [z, optA_n, if_pos rfl]
    exact th_36b jbc j hs hr hX nd e cr jk (fun d hd => by simp at hd) (fun y => absurd z y) q
  · have b7 := (j.1.2.1 s hs).2.2.1 z
    rw [optA_s z, if_neg (by simp), sX20_thrown_7, sX20_thrown_8 (cr.kk k1 (by decide)), cr.rr k1 rfl, k3, optA_s z, sX20_thrown_11, sX20_thrown_12 (cr.kk (jk.gx.kb b7.1.1) (by decide))]
    refine jk_blk jbc j hs hr hX nd cr jk b7.1 (by simp) (by simp) (fun y => by omega) (fun h1 v1 N1 c1 jk1 _ => ?_)
    rw [Kt_0]
    exact th_36b jbc j hs hr hX nd e c1 jk1 (fun d hd => by simpa using hd) (fun _ => by simp) q
/-- Statement.judge -/
theorem c_jstm (jbc : JBC r R A T w p0 g U c l L0) (j : JP w g U c l) : JSC (r + 1) R A T w p0 g U c l L0 := by
  intro h v Nd X s Q cr sj hs hr hX pin nd q
  have gs := j.1.2.2.2.2 _ (j.pw.1 s hs)
  have x8 : X.length ≤ 800 := by omega
  have u20 := (j.2.1.2.2.1.2.2.2.2.1 s hs).2.2.1
  have gx : GX R A T w p0 v U := sj.1
  have hsort : U 20 s = 0 ∨ U 20 s = 1 ∨ U 20 s = 2 ∨ U 20 s = 3 ∨ U 20 s = 4 ∨ U 20 s = 5 ∨ U 20 s = 6 ∨ U 20 s = 7 ∨ U 20 s = 8 ∨ U 20 s = 9 ∨ U 20 s = 10 ∨ U 20 s = 11 := by omega
  obtain ⟨f0, f3, f1, f2, f4, f5, f7, f9, f10, f11, _⟩ := gx.fs hs
  rcases hsort with e | e | e | e | e | e | e | e | e | e | e | e
  · exact jst_go j hs sj cr pin (f0 (Or.inl e)).1 (fun _ _ _ _ _ _ _ _ hk => sX12_judge_3_k30 hk) (fun _ _ _ _ _ _ _ _ hk => sX12_judge_12_k30 hk) (th_30 j hs (Or.inl e)) (lf_30 hs (Or.inl e)) q
  · exact jst_go j hs sj cr pin (f1 e).1 (fun _ _ _ _ _ _ _ _ hk => sX12_judge_3_k31 hk) (fun _ _ _ _ _ _ _ _ hk => sX12_judge_12_k31 hk) (th_31 jbc j hs hr hX nd e) (lf_31 e) q
  · exact jst_go j hs sj cr pin (f2 e).1 (fun _ _ _ _ _ _ _ _ hk => sX12_judge_3_k32 hk) (fun _ _ _ _ _ _ _ _ hk => sX12_judge_12_k32 hk) (th_32 j hs e) (lf_32 e) q
  · exact jst_go j hs sj cr pin (f3 e).1 (fun _ _ _ _ _ _ _ _ hk => sX12_judge_3_k30 hk) (fun _ _ _ _ _ _ _ _ hk => sX12_judge_12_k30 hk) (th_30 j hs (Or.inr (Or.inl e))) (lf_30 hs (Or.inr (Or.inl e))) q
  · exact jst_go j hs sj cr pin (f4 e).1 (fun _ _ _ _ _ _ _ _ hk => sX12_judge_3_k33 hk) (fun _ _ _ _ _ _ _ _ hk => sX12_judge_12_k33 hk) (th_33 jbc j hs hr hX nd e) (lf_33 j hs e) q
  · exact jst_go j hs sj cr pin (f5 (Or.inl e)).1 (fun _ _ _ _ _ _ _ _ hk => sX12_judge_3_k34 hk) (fun _ _ _ _ _ _ _ _ hk => sX12_judge_12_k34 hk) (th_34 jbc j hs hr hX nd (Or.inl e)) (lf_34 j hs (Or.inl e)) q
  · exact jst_go j hs sj cr pin (f5 (Or.inr e)).1 (fun _ _ _ _ _ _ _ _ hk => sX12_judge_3_k34 hk) (fun _ _ _ _ _ _ _ _ hk => sX12_judge_12_k34 hk) (th_34 jbc j hs hr hX nd (Or.inr e)) (lf_34 j hs (Or.inr e)) q
  · obtain ⟨_, _, bk⟩ := f7 e
    exact jst_go j hs sj cr pin bk.1 (fun _ _ _ _ _ _ _ _ hk => sX12_judge_3_k35 hk) (fun _ _ _ _ _ _ _ _ hk => sX12_judge_12_k35 hk) (th_35 j hs x8 e) (lf_35 e) q
  · exact jst_go j hs sj cr pin (f0 (Or.inr e)).1 (fun _ _ _ _ _ _ _ _ hk => sX12_judge_3_k30 hk) (fun _ _ _ _ _ _ _ _ hk => sX12_judge_12_k30 hk) (th_30 j hs (Or.inr (Or.inr e))) (lf_30 hs (Or.inr (Or.inr e))) q
  · exact jst_go j hs sj cr pin (f9 e).1 (fun _ _ _ _ _ _ _ _ hk => sX12_judge_3_k36 hk) (fun _ _ _ _ _ _ _ _ hk => sX12_judge_12_k36 hk) (th_36 jbc j hs hr hX nd e) (lf_36 j hs e) q
  · exact jst_go j hs sj cr pin (f10 e).1 (fun _ _ _ _ _ _ _ _ hk => sX12_judge_3_k37 hk) (fun _ _ _ _ _ _ _ _ hk => sX12_judge_12_k37 hk) (th_37 jbc j hs hr hX nd e) (lf_37 e) q
  · exact jst_go j hs sj cr pin (f11 e).1 (fun _ _ _ _ _ _ _ _ hk => sX12_judge_3_k38 hk) (fun _ _ _ _ _ _ _ _ hk => sX12_judge_12_k38 hk) (th_38 jbc j hs hr hX nd e) (lf_38 j hs e) q
/-- every block can be judged -/
theorem JBC_all (j : JP w g U c l) : ∀ r, JBC r R A T w p0 g U c l L0 := by
  intro r
  induction r with
  | zero =>
    intro h v Nd X b Q cr sj hb hr
    have := j.1.2.2.2.2 b hb
    omega
  | succ r ih => exact c_jblock (c_jstm ih j) j
end JT5
