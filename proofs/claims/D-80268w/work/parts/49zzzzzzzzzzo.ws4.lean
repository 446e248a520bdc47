/-! COMPONENT, 156: walks: try (201) *-/
section WS4
variable {R : Nat → Nat} {A : Nat → Int → Nat} {T : Nat → Nat} {w p0 n s b d m cc y : Int} {g : Int → Int} {U S S' S1 S0 X : tSt} {c l : Int → Int} {wk r : Nat} {P P0 : Int → Prop} {v0 v v' : vT} {h : am_H} {Q : am_O → am_H → Prop} {l2 l3 l4 : Option am_V}
theorem und_c (qw : QW w U) : und U w y (cBy U w cc) = tFor (fun i a => a || (decide (cK U w cc i ≠ -1) && bel U w y (cK U w cc i))) (U 37 cc).toNat 0 false := by
  have n3 := qw.1
  rw [Bool.eq_iff_iff]
  unfold und
  rw [tFor_any, tFor_any]
  constructor
  · rintro (e | ⟨k, k0, k1, e⟩)
    · exact absurd e (by decide)
    · rw [Bool.and_eq_true] at e
      have := e.1
      unfold cBy at this
      rw [sHas_for] at this
      rcases this with t | ⟨i, i0, i1, t⟩
      · exfalso
        unfold sHas at t
        simp at t
      · have kb := kO_b (U := U) (w := w) (x := U 38 (4 * cc + i)) (a := U 39 (4 * cc + i)) n3
        have kb' : -1 ≤ cK U w cc i := kb.1
        rw [sHas_only k0 kb'] at t
        refine Or.inr ⟨i, i0, i1, ?_⟩
        rw [Bool.and_eq_true, decide_eq_true_eq, t]
        exact ⟨by omega, e.2⟩
  · rintro (e | ⟨i, i0, i1, e⟩)
    · exact absurd e (by decide)
    · rw [Bool.and_eq_true, decide_eq_true_eq] at e
      have kb := kO_b (U := U) (w := w) (x := U 38 (4 * cc + i)) (a := U 39 (4 * cc + i)) n3
      have kb' : -1 ≤ cK U w cc i ∧ cK U w cc i < U 3 w := kb
      refine Or.inr ⟨cK U w cc i, by omega, by omega, ?_⟩
      rw [Bool.and_eq_true]
      refine ⟨?_, e.2⟩
      unfold cBy
      rw [sHas_for]
      exact Or.inr ⟨i, i0, i1, (sHas_only (by omega) kb'.1).mpr rfl⟩
theorem c_cgL {ln : Nat} {kf pf : Int → Int} {ac : Nat} (kx : KX h v (R 3) (R 4) U w (A 0)) (kc : hK v.1 ac = 22) (r1 : hR v.1 ac 1 = some ln) (nl : NL v (A 0) ln n kf pf) (n4 : n ≤ 4) (hy : 0 ≤ y ∧ y < U 3 w) (kb : ∀ i, -1 ≤ kf i ∧ kf i < U 3 w) : ∀ (d : Nat) (k : Int) (a : Bool), 0 ≤ k → k + d = n →
    (Rn r 256 4 [some (vR (some ac)), some (vR (some (A 0 y))), some (vI (bI (a = true))), some (vI (iI k))] [] h Q ↔ Q (Sum.inl (some (vI (bI (tFor (fun i a => a || (decide (kf i ≠ -1) && bel U w y (kf i))) d k a = true))))) h) := by
  have cr := kx.1
  obtain ⟨kl, n0, sz, gt⟩ := nl.raw cr
  obtain ⟨_, _, n3, kk, _⟩ := kx.raw
  have kch := cr.kk kc (by decide)
  have r1h : hR h ac 1 = some ln := by rw [cr.rr kc rfl]; exact r1
  intro d
  induction d with
  | zero =>
    intro k a k0 hk
    rw [sX22_catches_4, sX22_catches_5, sX22_catches_6 kch, r1h, sX22_catches_9 kl, sz, Kt_v, sX22_catches_12, if_pos (by rw [iI_le (by omega) (by omega) (by omega) (by omega)]; omega), sX22_catches_67, sX22_catches_68 am_fit4]
    exact Iff.rfl
  | succ d ih =>
    intro k a k0 hk
    obtain ⟨e, ge, ke, re, _⟩ := gt k k0 (by omega)
    obtain ⟨a1, _⟩ := kk y hy.1 hy.2
    have fin : ∀ t : Bool, (decide (kf k ≠ -1) && bel U w y (kf k)) = t → (Rn r 256 59 [some (vR (some ac)), some (vR (some (A 0 y))), some (vI (bI (a = true))), some (vI (iI k))] [vI (bI (t = true)), vI (bI (a = true))] h Q ↔ Q (Sum.inl (some (vI (bI (tFor (fun i a => a || (decide (kf i ≠ -1) && bel U w y (kf i))) (d + 1) k a = true))))) h) := fun t et => by
      rw [sX22_catches_59, bI_or, sX22_catches_60, sX22_catches_61, i_1, iI_add, sX22_catches_64, tFor, et]
      exact ih (k + 1) _ (by omega) (by omega)
    rw [sX22_catches_4, sX22_catches_5, sX22_catches_6 kch, r1h, sX22_catches_9 kl, sz, Kt_v, sX22_catches_12, if_neg (by rw [iI_le (by omega) (by omega) (by omega) (by omega)]; omega), sX22_catches_15, sX22_catches_16, sX22_catches_17 kch, r1h, sX22_catches_20, sX22_catches_21 kl, ge, Kt_v, sX22_catches_24 (by rw [ke]; decide), sX22_catches_27 ke, re, sX22_catches_30]
    by_cases q : kf k = -1
    · rw [q, optA_n, if_pos rfl, sX22_catches_58]
      exact fin false (by rw [q]; rfl)
    · have kbk := kb k
      rw [optA_s q, if_neg (by simp), sX22_catches_33, sX22_catches_34, sX22_catches_35 kch, r1h, sX22_catches_38, sX22_catches_39 kl, ge, Kt_v, sX22_catches_42 (by rw [ke]; decide), sX22_catches_45 ke, re, optA_s q, sX22_catches_48 a1, c_isBelow kx hy (by omega), Kt_v, sX22_catches_51]
      by_cases t : bel U w y (kf k) = true
      · rw [if_neg (by rw [bI_t t]; decide), sX22_catches_54, sX22_catches_55]
        exact fin true (by rw [t, decide_eq_true q]; rfl)
      · have t' : bel U w y (kf k) = false := by simpa using t
        rw [if_pos (by rw [bI_f t]; rfl), sX22_catches_58]
        exact fin false (by rw [t', Bool.and_false])
theorem c_catches (j : JP w g U c l) (cr : CR h v) (gx : GX R A T w p0 v U) (hc : As w U (cc / 4) ∧ cc % 4 < U 33 (cc / 4)) (hy : 0 ≤ y ∧ y < U 3 w) : Cl r 256 [vR (some (A 4 cc)), vR (some (A 0 y))] h Q ↔ Q (Sum.inl (some (vI (bI (und U w y (cBy U w cc) = true))))) h := by
  have qw := j.2.1.2.2.1
  have b37 := QV_b j.2.1.2.1 (f := 37) (c := 4) rfl rfl rfl cc
  obtain ⟨kc, _, _, _, ln, r1, _, nl⟩ := (gx.2.2.2.2.2.2.2.1 cc hc.1 hc.2).1
  rw [eX22_catches, sX22_catches_0, sX22_catches_1, sX22_catches_2, sX22_catches_3, i_0, und_c qw]
  exact c_cgL ⟨cr, gx.1.1, qw⟩ kc r1 nl b37.2 hy (fun i => kO_b qw.1) (U 37 cc).toNat 0 false (by omega) (by omega)
/-- a try at its end, when the walk is over -/
theorem ty_end (cr : CR h v) (x : WV R A T w p0 U c l wk P v0 v S) (hs : As w U s) (e : U 20 s = 9) (h68 : S 68 0 = 1) (q : Q (Sum.inl none) h) : Rn r 201 159 [some (vR (some (A 2 s))), some (vR (some wk)), l2, l3, l4] [] h Q := by
  have kw := x.kw
  obtain ⟨k1, _, k10, _⟩ := FS9 x.gx hs e
  rw [sX20_walk_159, sX20_walk_160 (cr.kk k1 (by decide)), cr.rr k1 rfl, k10, sX20_walk_163]
  split
  · rw [sX20_walk_226]
    exact q
  · rw [sX20_walk_166, sX20_walk_167 (cr.kk kw (by decide)), cr.ii kw rfl, sX20_walk_170, sX20_walk_171, i_4, if_pos ((how_eq x.1 (by omega)).mpr ((hwO_4 x.1).mpr h68)), sX20_walk_226]
    exact q
/-- finally -/
theorem ty_fin (bw : BWC r R A T w p0 g U c l wk v0) (j : JP w g U c l) (hs : As w U s) (hr : 9 - g (U 22 s) ≤ (r + 1 : Nat)) (e : U 20 s = 9) (gn : 0 ≤ n ∧ n ≤ g (U 22 s)) (q : ∀ h' v' S' P', CR h' v' → WV R A T w p0 U c l wk P' v0 v' S' → (∀ k, P0 k → P' k) → WGo w U X S' → SE n S0 S' → Q (Sum.inl none) h')
    (cr : CR h v) (x : WV R A T w p0 U c l wk P v0 v S) (h68 : S 68 0 = 0) (h69 : S 69 0 = n) (pa : PAn w U P (U 22 s)) (mo : ∀ k, P0 k → P k) (wg : WGo w U X (tFin U s S)) (kf : KF n S0 S) : Rn (r + 1) 201 159 [some (vR (some (A 2 s))), some (vR (some wk)), l2, l3, l4] [] h Q := by
  have kw := x.kw
  have zg := j.1.2.2.2.2 _ (j.pw.1 s hs)
  obtain ⟨k1, _, k10, _⟩ := FS9 x.gx hs e
  obtain ⟨⟨_, i0, j3, i4⟩, t1, t2, b65, b66, b74, b67, b68⟩ := id x.1
  unfold tFin at wg
  rw [sX20_walk_159, sX20_walk_160 (cr.kk k1 (by decide)), cr.rr k1 rfl, k10, sX20_walk_163]
  by_cases z : U 29 s = -1
  · rw [if_pos z] at wg
    rw [z, optA_n, if_pos rfl, sX20_walk_226]
    exact q h v S P cr x mo wg (Or.inr ⟨h68, h69, kf⟩)
  · rw [if_neg z] at wg
    have bd := bo29 j hs z
    have h41 := ((j.1.2.1 s hs).2.2.1 z).2
    have S3x : WV R A T w p0 U c l wk P v0 v (up (up S 72 (S 69 0) (S 66 0)) 73 (S 69 0) (S 67 0)) := WV_cg x (fun f hf => by rw [up_n (by omega), up_n (by omega)])
    have x3 := WV_on S3x (by rw [up_n (by decide), up_n (by decide)]; exact h68)
    have kf3 : KF n S0 (up (up (up S 72 (S 69 0) (S 66 0)) 73 (S 69 0) (S 67 0)) 66 0 0) := kf.tr (fun k hk => by
      refine ⟨?_, ?_, ?_, ?_⟩
      · rw [up_n (by decide), up_n (by decide), up_n (by decide)]
      · rw [up_n (by decide), up_n (by decide), up_n (by decide)]
      · rw [up_n (by decide), up_n (by decide), up_ne2 (by omega)]
      · rw [up_n (by decide), up_ne2 (by omega), up_n (by decide)])
    have s72 : (up (up (up S 72 (S 69 0) (S 66 0)) 73 (S 69 0) (S 67 0)) 66 0 0) 72 n = S 66 0 := by
      rw [up_n (by decide), up_n (by decide), h69, up_s]
    have s73 : (up (up (up S 72 (S 69 0) (S 66 0)) 73 (S 69 0) (S 67 0)) 66 0 0) 73 n = S 67 0 := by
      rw [up_n (by decide), h69, up_s]
    have z66 : (up (up (up S 72 (S 69 0) (S 66 0)) 73 (S 69 0) (S 67 0)) 66 0 0) 66 0 = 0 := up_s
    have z68 : (up (up (up S 72 (S 69 0) (S 66 0)) 73 (S 69 0) (S 67 0)) 66 0 0) 68 0 = 0 := by
      rw [up_n (by decide), up_n (by decide), up_n (by decide)]; exact h68
    have z69 : (up (up (up S 72 (S 69 0) (S 66 0)) 73 (S 69 0) (S 67 0)) 66 0 0) 69 0 = n := by
      rw [up_n (by decide), up_n (by decide), up_n (by decide)]; exact h69
    generalize (up (up (up S 72 (S 69 0) (S 66 0)) 73 (S 69 0) (S 67 0)) 66 0 0) = S3 at *
    have c3 : CR (putI h wk 0 0) (vpI v wk 0 0) := CR_pI cr kw rfl
    have k10' : hR (vpI v wk 0 0).1 (A 2 s) 10 = optA (A 3) (U 29 s) := k10
    have k1' : hK (vpI v wk 0 0).1 (A 2 s) = 36 := k1
    rw [optA_s z, if_neg (by simp), sX20_walk_166, sX20_walk_167 (cr.kk kw (by decide)), cr.ii kw rfl, sX20_walk_170, sX20_walk_171, i_4, if_neg (fun t => by have := (hwO_4 x.1).mp ((how_eq x.1 (by omega)).mp t); omega), sX20_walk_174, sX20_walk_175 (cr.kk kw (by decide)), cr.ii kw rfl, sX20_walk_178, sX20_walk_179, sX20_walk_180 (cr.kk kw (by decide)), cr.rr kw rfl, sX20_walk_183, sX20_walk_184, sX20_walk_185 (cr.kk kw (by decide)), cr.rr kw rfl, sX20_walk_188, sX20_walk_190, sX20_walk_191, sX20_walk_192 (cr.kk kw (by decide)), sX20_walk_195, sX20_walk_196 (c3.kk k1' (by decide)), c3.rr k1' rfl, k10', optA_s z, sX20_walk_199, sX20_walk_200 (c3.kk (x3.gx.kb bd.1) (by decide))]
    refine blk_go bw j hs hr bd c3 x3 ⟨z66, z68, z69, gn⟩ pa (by omega) (fun h4 v4 S4 P4 c4 x4 mo4 wg4 be => ?_)
    have kw4 := x4.kw
    have mo5 : ∀ k, P0 k → P4 k := fun k hk => mo4 k (mo k hk)
    have wg5 := wg.tr wg4
    rw [Kt_0, sX20_walk_203, sX20_walk_204 (c4.kk kw4 (by decide)), c4.ii kw4 rfl, sX20_walk_207, i_0]
    rcases be with be | ⟨b68', b69, kf4, ⟨b70, b72, b73⟩, b71, bz⟩
    · rw [if_pos (fun t => by have := (hwO_0 x4.1).mp ((how_eq x4.1 (by omega)).mp t); omega), sX20_walk_226]
      exact q h4 v4 S4 P4 c4 x4 mo5 wg5 (Or.inl be)
    · have lv := WG_leave (U := U) (w := w) (n := n) (b := U 29 s) (x4.wr (by omega)) b69 (by omega) b68' x4.1.2.2.2.2.2.2.1 b70 bd.1 bz b71 (by omega) (by omega) (by omega)
      have e66 : up S4 69 0 n 66 0 = S4 66 0 := by rw [up_n (by decide)]
      have e72 : up S4 69 0 n 72 n = S 66 0 := by rw [up_n (by decide), b72, s72]
      have e73 : up S4 69 0 n 73 n = S 67 0 := by rw [up_n (by decide), b73, s73]
      have el : tLv U w (U 29 s) n (up S4 69 0 n) = if S4 66 0 = 0 then up (up (up S4 69 0 n) 66 0 (S 66 0)) 67 0 (S 67 0) else up S4 69 0 n := by
        unfold tLv
        rw [if_neg (by omega), if_neg (by omega), if_neg (by omega), if_neg (by omega), if_pos h41, e66, e72, e73]
      rw [el] at lv
      have x5 : WV R A T w p0 U c l wk P4 v0 v4 (up S4 69 0 n) := WV_cg x4 (fun f hf => up_n (by omega))
      have kf5 : KF n S0 (up S4 69 0 n) := (kf3.tr kf4).tr (KF.cg (fun f hf => up_n (by omega)))
      have e68 : up S4 69 0 n 68 0 = 0 := by rw [up_n (by decide)]; exact b68'
      by_cases y0 : S4 66 0 = 0
      · rw [if_pos y0] at lv
        rw [if_neg (fun t => t ((how_eq x4.1 (by omega)).mpr ((hwO_0 x4.1).mpr ⟨b68', y0⟩))), sX20_walk_210, sX20_walk_211, sX20_walk_212 (c4.kk kw4 (by decide)), sX20_walk_215, sX20_walk_216, sX20_walk_217 (by rw [hK_putI]; exact c4.kk kw4 (by decide)), sX20_walk_220, sX20_walk_221, sX20_walk_223 (by rw [hK_putR, hK_putI]; exact c4.kk kw4 (by decide)), sX20_walk_226]
        refine q _ (vpR (vpR (vpI v4 wk 0 (hI v.1 wk 0)) wk 1 (hR v.1 wk 1)) wk 2 (hR v.1 wk 2)) _ P4 (CR_pR (n := 14) (CR_pR (n := 14) (CR_pI c4 kw4 rfl) kw4 rfl) kw4 rfl) ?_ mo5 (wg5.tr lv) (Or.inr ⟨by simp only [up_eq, true_and, false_and, and_true, and_false, and_self, if_true, if_false, eq_self, Nat.reduceEqDiff, reduceIte]; exact b68', by simp only [up_eq, true_and, false_and, and_true, and_false, and_self, if_true, if_false, eq_self, Nat.reduceEqDiff, reduceIte], kf5.tr (KF.cg (fun f hf => by rw [up_n (by omega), up_n (by omega)]))⟩)
        refine WV_set x5 (fwR (fwR (fwI fw0))) rfl rfl ?_ ?_ ?_ ?_ ?_ ?_ ?_ rfl ?_ ?_ ?_
        · rw [up_n (by decide), up_n (by decide)]
        · rw [up_n (by decide), up_n (by decide)]
        · rw [up_n (by decide), up_n (by decide)]
        · simp only [up_eq, true_and, false_and, and_true, and_false, and_self, if_true, if_false, eq_self, Nat.reduceEqDiff, reduceIte]; exact b66
        · simp only [up_eq, true_and, false_and, and_true, and_false, and_self, if_true, if_false, eq_self, Nat.reduceEqDiff, reduceIte]; exact b67
        · simp only [up_eq, true_and, false_and, and_true, and_false, and_self, if_true, if_false, eq_self, Nat.reduceEqDiff, reduceIte]; exact b68'
        · rw [vpR_1, hI_putR, vpR_1, hI_putR, vpI_1, hI_putI, if_pos ⟨rfl, rfl⟩, i0]
          unfold hwO
          simp only [up_eq, true_and, false_and, and_true, and_false, and_self, if_true, if_false, eq_self, Nat.reduceEqDiff, reduceIte]
          rw [h68, b68']
        · rw [vpR_1, hI_putR, vpR_1, hI_putR, vpI_1, hI_putI, if_neg (by omega)]
        · simp only [up_eq, true_and, false_and, and_true, and_false, and_self, if_true, if_false, eq_self, Nat.reduceEqDiff, reduceIte]
          intro t
          rw [vpR_1, hR_putR, if_neg (by omega), vpR_1, hR_putR, if_pos ⟨rfl, rfl⟩]
          exact t1 t
        · simp only [up_eq, true_and, false_and, and_true, and_false, and_self, if_true, if_false, eq_self, Nat.reduceEqDiff, reduceIte]
          intro t
          rw [vpR_1, hR_putR, if_pos ⟨rfl, rfl⟩]
          exact t2 t
      · rw [if_neg y0] at lv
        rw [if_pos (fun t => y0 ((hwO_0 x4.1).mp ((how_eq x4.1 (by omega)).mp t)).2), sX20_walk_226]
        exact q h4 v4 _ P4 c4 x5 mo5 (wg5.tr lv) (Or.inr ⟨e68, up_s, kf5⟩)
/-- what is closed -/
theorem ty_close (j : JP w g U c l) (hs : As w U s) (e : U 20 s = 9) : ∀ (d : Nat) (h : am_H) (v : vT) (S : tSt), (d : Int) ≤ U 30 s → CR h v → WV R A T w p0 U c l wk P v0 v S → S 68 0 = 0 → (∀ h' v' l2, CR h' v' → WV R A T w p0 U c l wk P v0 v' (tCl U w s d S) → Rn r 201 62 [some (vR (some (A 2 s))), some (vR (some wk)), l2, l3, l4] [] h' Q) → Rn r 201 18 [some (vR (some (A 2 s))), some (vR (some wk)), some (vI (iI ((d : Int) - 1))), l3, l4] [] h Q := by
  have b30 := QV_b j.2.1.2.1 (f := 30) (c := 4) rfl rfl rfl s
  have qv := j.2.1.2.1
  have qw := j.2.1.2.2.1
  intro d
  induction d with
  | zero =>
    intro h v S hd cr x h68 q
    rw [sX20_walk_18, sX20_walk_19, i_0, if_pos (by rw [iI_lt (by omega) (by omega) (by omega) (by omega)]; omega)]
    exact q h v _ cr x
  | succ d ih =>
    intro h v S hd cr x h68 q
    have kw := x.kw
    obtain ⟨k1, _, _, ⟨l7, k7, r7, v7⟩, _⟩ := FS9 x.gx hs e
    have len : (vLs v l7).length = (U 30 s).toNat := by rw [v7]; unfold clN; rw [List.length_map, List.length_range]
    have ge : (vLs v l7).getD ((d : Int)).toNat none = optA (A 1) (mO U w (U 31 (4 * s + (d : Int)))) := by
      rw [v7, Int.toNat_natCast]
      unfold clN
      rw [List.getD_eq_getElem?_getD, List.getElem?_map, List.getElem?_range (by omega)]
      rfl
    have mb := mO_b (U := U) (w := w) (x := U 31 (4 * s + (d : Int))) qw.2.1
    unfold tCl at q
    rw [show (((d + 1 : Nat) : Int) - 1) = (d : Int) by omega, sX20_walk_18, sX20_walk_19, i_0, if_neg (by rw [iI_lt (by omega) (by omega) (by omega) (by omega)]; omega), sX20_walk_22, sX20_walk_23 (cr.kk kw (by decide)), cr.ii kw rfl, sX20_walk_26, sX20_walk_27, i_4, if_neg (fun t => by have := (hwO_4 x.1).mp ((how_eq x.1 (by omega)).mp t); omega), sX20_walk_30, sX20_walk_31 (cr.kk k1 (by decide)), cr.rr k1 rfl, r7, sX20_walk_34, sX20_walk_35 (cr.kk k7 (by decide)), v_get cr k7 (by omega) (by rw [len]; omega), Kt_v, ge, sX20_walk_38]
    by_cases z : mO U w (U 31 (4 * s + (d : Int))) = -1
    · rw [if_pos z] at q
      rw [z, optA_n, if_pos rfl, sX20_walk_56, i_m1, iI_add, show (d : Int) + -1 = (d : Int) - 1 by omega, sX20_walk_59]
      exact ih h v S (by omega) cr x h68 q
    · rw [if_neg z] at q
      have m1 := mb.2.resolve_right z
      have km := (x.gx.2.2.1.2.2.2 _ (show 0 ≤ mO U w (U 31 (4 * s + (d : Int))) by omega) m1).1
      rw [optA_s z, if_neg (by simp), sX20_walk_41, sX20_walk_42, sX20_walk_43 (cr.kk k1 (by decide)), cr.rr k1 rfl, r7, sX20_walk_46, sX20_walk_47 (cr.kk k7 (by decide)), v_get cr k7 (by omega) (by rw [len]; omega), Kt_v, ge, optA_s z, sX20_walk_50 (by rw [cr.kk km (by decide)]; decide), sX20_walk_53 (cr.kk kw (by decide))]
      refine c_close1 qv qw cr x h68 (by omega) m1 (fun h2 v2 c2 x2 => ?_)
      rw [Kt_0, sX20_walk_56, i_m1, iI_add, show (d : Int) + -1 = (d : Int) - 1 by omega, sX20_walk_59]
      exact ih h2 v2 _ (by omega) c2 x2 (by rw [tDrT_o 68 (by decide) (by decide) (by decide)]; exact h68) q
end WS4
