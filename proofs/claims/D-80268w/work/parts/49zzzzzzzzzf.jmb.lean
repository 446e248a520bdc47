/-! COMPONENT, 122: mistakes of a catch (286), joined *-/
section JMB
variable {R : Nat → Nat} {A : Nat → Int → Nat} {T : Nat → Nat} {w p0 s cc i : Int} {U : tSt} {c l g : Int → Int} {L0 X Z : List tMi} {v0 v v' : vT} {Nd N Bs : List Int} {r lk : Nat} {h : am_H} {Q : am_O → am_H → Prop} {l3 l7 l8 l9 l10 l11 : Option am_V}
def m5 (U : tSt) (w c k : Int) : List tMi := if tFor (fun j a => a || (decide (cK U w c j ≠ -1) && (bel U w (cK U w c k) (cK U w c j) || bel U w (cK U w c j) (cK U w c k)))) k.toNat 0 false = true then [(5, (U 39 (4 * c + k), cK U w c k))] else []
def m4 (U : tSt) (w c k : Int) : List tMi := if und U w (cK U w c k) (ahd U w c) = true then [(4, (U 39 (4 * c + k), cK U w c k))] else []
def m3 (U : tSt) (w i c k : Int) : List tMi := if 1 < cK U w c k ∧ chk U w (cK U w c k) = true ∧ tFor (fun q a => a || (sHas i q && bel U w q (cK U w c k))) (U 3 w).toNat 0 (und U w (cK U w c k) i) = false then [(3, (U 39 (4 * c + k), cK U w c k))] else []
theorem if_l1' {p : Prop} [Decidable p] {a : tMi} : (if p then [a] else []).length ≤ 1 := by
  split
  · exact Nat.le_refl _
  · exact Nat.zero_le _
theorem mCj_e {ii : Int} (h : cK U w cc i ≠ -1) : mCj U w ii cc i = m3 U w ii cc i ++ (m4 U w cc i ++ m5 U w cc i) := by
  unfold mCj m3 m4 m5
  rw [if_neg h]
theorem p39 (j : JP w g U c l) {q : Int} : -1 ≤ U 39 q ∧ U 39 q ≤ 100000 := ⟨Int.le_trans (by decide) (j.2.1.2.1 39 q).1, (j.2.1.2.1 39 q).2.2 rfl⟩
theorem jm_5 (j : JP w g U c l) (hs : As w U s) (hX : X.length ≤ 800) (cr : CR h v) (jk : JK R A T w p0 U c l L0 Nd X s v0 v N Z Bs) (hi : IF A w U c v s) (hZ : Z.length ≤ 90) (hc : As w U (cc / 4) ∧ cc % 4 < U 33 (cc / 4)) (i0 : 0 ≤ i ∧ i < U 37 cc) (z : cK U w cc i ≠ -1)
    (q : ∀ h' v' l5 l6 l7 l8 l9 l10 l11, CR h' v' → JK R A T w p0 U c l L0 Nd X s v0 v' N (Z ++ m5 U w cc i) Bs → IF A w U c v' s → Rn r 286 306 [some (vR (some (A 2 s))), some (vR (some (R 3))), some (vR (some (A 4 cc))), l3, some (vI (iI i)), l5, l6, l7, l8, l9, l10, l11] [] h' Q) :
    Rn r 286 218 [some (vR (some (A 2 s))), some (vR (some (R 3))), some (vR (some (A 4 cc))), l3, some (vI (iI i)), some (vR (some (A 0 (cK U w cc i)))), some (vI (iI (U 39 (4 * cc + i)))), l7, l8, l9, l10, l11] [] h Q := by
  have qw := j.2.1.2.2.1
  have gx := jk.gx
  have kx : KX h v (R 3) (R 4) U w (A 0) := ⟨cr, gx.1.1, qw⟩
  obtain ⟨ku, ru, n3, kk, sz, gt, kl⟩ := kx.raw
  have b37 := QV_b j.2.1.2.1 (f := 37) (c := 4) rfl rfl rfl cc
  obtain ⟨kc, _, _, _, ll, rl, _, nl⟩ := (CFx gx hc).1
  have cb := kO_b (U := U) (w := w) (x := U 38 (4 * cc + i)) (a := U 39 (4 * cc + i)) n3
  have cb' : -1 ≤ cK U w cc i ∧ cK U w cc i < U 3 w := cb
  have ca : 0 ≤ cK U w cc i ∧ cK U w cc i < U 3 w := by omega
  obtain ⟨a1, a2, _⟩ := kk _ ca.1 ca.2
  rw [sX20_judge_218, sX20_judge_219, sX20_judge_221, sX20_judge_222]
  refine jm_mt kx kc rl nl b37.2 ca (i := i) ⟨i0.1, by omega⟩ (fun l10 l11 => ?_) i.toNat 0 false _ (Int.le_refl _) (by omega) rfl
  unfold m5 at q
  rw [sX20_judge_289, sX20_judge_291]
  by_cases y : tFor (fun j a => a || (decide (cK U w cc j ≠ -1) && (bel U w (cK U w cc i) (cK U w cc j) || bel U w (cK U w cc j) (cK U w cc i)))) i.toNat 0 false = true
  · rw [if_pos y] at q
    rw [if_neg (by rw [bI_t y]; decide), sX20_judge_294, sX20_judge_295, sX20_judge_296, sX20_judge_298, sX20_judge_300 a1, a2, sX20_judge_303 ku, show (5 : Int32) = iI 5 from rfl]
    refine jk_m1 j hs hX cr jk hi hZ (by omega) (p39 j) (by omega) (fun h2 v2 c2 jk2 hi2 => ?_)
    rw [Kt_0]
    exact q h2 v2 _ _ _ _ _ _ _ c2 jk2 hi2
  · rw [if_neg y, List.append_nil] at q
    rw [if_pos (by rw [bI_f y]; rfl)]
    exact q h v _ _ _ _ _ _ _ cr jk hi
theorem jm_4 (j : JP w g U c l) (hs : As w U s) (hX : X.length ≤ 800) (cr : CR h v) (jk : JK R A T w p0 U c l L0 Nd X s v0 v N Z Bs) (hi : IF A w U c v s) (hZ : Z.length ≤ 89) (hc : As w U (cc / 4) ∧ cc % 4 < U 33 (cc / 4)) (i0 : 0 ≤ i ∧ i < U 37 cc) (z : cK U w cc i ≠ -1)
    (q : ∀ h' v' l5 l6 l7 l8 l9 l10 l11, CR h' v' → JK R A T w p0 U c l L0 Nd X s v0 v' N (Z ++ (m4 U w cc i ++ m5 U w cc i)) Bs → IF A w U c v' s → Rn r 286 306 [some (vR (some (A 2 s))), some (vR (some (R 3))), some (vR (some (A 4 cc))), some (vI (iI (ahd U w cc))), some (vI (iI i)), l5, l6, l7, l8, l9, l10, l11] [] h' Q) :
    Rn r 286 196 [some (vR (some (A 2 s))), some (vR (some (R 3))), some (vR (some (A 4 cc))), some (vI (iI (ahd U w cc))), some (vI (iI i)), some (vR (some (A 0 (cK U w cc i)))), some (vI (iI (U 39 (4 * cc + i)))), l7, l8, l9, l10, l11] [] h Q := by
  have qw := j.2.1.2.2.1
  have gx := jk.gx
  have kx : KX h v (R 3) (R 4) U w (A 0) := ⟨cr, gx.1.1, qw⟩
  obtain ⟨ku, ru, n3, kk, sz, gt, kl⟩ := kx.raw
  have cb := kO_b (U := U) (w := w) (x := U 38 (4 * cc + i)) (a := U 39 (4 * cc + i)) n3
  have cb' : -1 ≤ cK U w cc i ∧ cK U w cc i < U 3 w := cb
  have ca : 0 ≤ cK U w cc i ∧ cK U w cc i < U 3 w := by omega
  obtain ⟨a1, a2, _⟩ := kk _ ca.1 ca.2
  rw [sX20_judge_196, sX20_judge_197, sX20_judge_199, sX20_judge_200 ku, c_isBelowAny kx ca (ahd_ok qw), Kt_v, sX20_judge_203]
  unfold m4 at q
  by_cases y : und U w (cK U w cc i) (ahd U w cc) = true
  · rw [if_pos y] at q
    rw [if_neg (by rw [bI_t y]; decide), sX20_judge_206, sX20_judge_207, sX20_judge_208, sX20_judge_210, sX20_judge_212 a1, a2, sX20_judge_215 ku, show (4 : Int32) = iI 4 from rfl]
    refine jk_m1 j hs hX cr jk hi (by omega) (by omega) (p39 j) (by omega) (fun h2 v2 c2 jk2 hi2 => ?_)
    rw [Kt_0]
    refine jm_5 j hs hX c2 jk2 hi2 (by rw [List.length_append, List.length_singleton]; omega) hc i0 z (fun h' v' l5 l6 l7 l8 l9 l10 l11 c' jk' hi' => q h' v' _ _ _ _ _ _ _ c' ?_ hi')
    rw [← List.append_assoc]
    exact jk'
  · rw [if_neg y] at q
    rw [if_pos (by rw [bI_f y]; rfl)]
    exact jm_5 j hs hX cr jk hi (by omega) hc i0 z (fun h' v' l5 l6 l7 l8 l9 l10 l11 c' jk' hi' => q h' v' _ _ _ _ _ _ _ c' jk' hi')
theorem jm_3 (j : JP w g U c l) (hs : As w U s) (e9 : U 20 s = 9) (hX : X.length ≤ 800) (cr : CR h v) (jk : JK R A T w p0 U c l L0 Nd X s v0 v N Z Bs) (hi : IF A w U c v s) (hZ : Z.length ≤ 88) (hc : As w U (cc / 4) ∧ cc % 4 < U 33 (cc / 4)) (i0 : 0 ≤ i ∧ i < U 37 cc) (z : cK U w cc i ≠ -1)
    (q : ∀ h' v' l5 l6 l7 l8 l9 l10 l11, CR h' v' → JK R A T w p0 U c l L0 Nd X s v0 v' N (Z ++ mCj U w (chO U w (ins U w c s)) cc i) Bs → IF A w U c v' s → Rn r 286 306 [some (vR (some (A 2 s))), some (vR (some (R 3))), some (vR (some (A 4 cc))), some (vI (iI (ahd U w cc))), some (vI (iI i)), l5, l6, l7, l8, l9, l10, l11] [] h' Q) :
    Rn r 286 54 [some (vR (some (A 2 s))), some (vR (some (R 3))), some (vR (some (A 4 cc))), some (vI (iI (ahd U w cc))), some (vI (iI i)), some (vR (some (A 0 (cK U w cc i)))), some (vI (iI (U 39 (4 * cc + i)))), l7, l8, l9, l10, l11] [] h Q := by
  have qw := j.2.1.2.2.1
  have gx := jk.gx
  have kx : KX h v (R 3) (R 4) U w (A 0) := ⟨cr, gx.1.1, qw⟩
  obtain ⟨ku, ru, n3, kk, sz, gt, kl⟩ := kx.raw
  have bd := bo27 j hs (by omega)
  have io : sOk (ins U w c s) := by unfold ins; exact sOr_ok (bCk j bd.1) (nmO_ok qw)
  have kt : hK v.1 (A 2 s) = 36 := by
    obtain ⟨_, _, _, _, _, _, _, f9, _⟩ := gx.fs hs
    exact (f9 e9).1
  have cb := kO_b (U := U) (w := w) (x := U 38 (4 * cc + i)) (a := U 39 (4 * cc + i)) n3
  have cb' : -1 ≤ cK U w cc i ∧ cK U w cc i < U 3 w := cb
  have ca : 0 ≤ cK U w cc i ∧ cK U w cc i < U 3 w := by omega
  obtain ⟨a1, a2, _⟩ := kk _ ca.1 ca.2
  rw [mCj_e z] at q
  unfold m3 at q
  generalize hF : tFor (fun k z => z || (sHas (chO U w (ins U w c s)) k && (bel U w k (cK U w cc i) || bel U w (cK U w cc i) k))) (U 3 w).toNat 0 (!chk U w (cK U w cc i) || decide (cK U w cc i ≤ 1)) = F
  have cnd : (1 < cK U w cc i ∧ chk U w (cK U w cc i) = true ∧ tFor (fun q a => a || (sHas (chO U w (ins U w c s)) q && bel U w q (cK U w cc i))) (U 3 w).toNat 0 (und U w (cK U w cc i) (chO U w (ins U w c s))) = false) ↔ F = false := by
    rw [← hF, Bool.eq_false_iff, Bool.eq_false_iff, Ne, Ne, tFor_any (p := fun k => sHas (chO U w (ins U w c s)) k && (bel U w k (cK U w cc i) || bel U w (cK U w cc i) k)), tFor_any (p := fun q => sHas (chO U w (ins U w c s)) q && bel U w q (cK U w cc i))]
    unfold und
    rw [tFor_any (p := fun q => sHas (chO U w (ins U w c s)) q && bel U w (cK U w cc i) q)]
    constructor
    · rintro ⟨h1, h2, h3⟩ h4
      apply h3
      rcases h4 with h4 | ⟨k, k1, k2, k3⟩
      · rw [h2] at h4
        simp at h4
        omega
      · rw [Bool.and_eq_true, Bool.or_eq_true] at k3
        rcases k3.2 with k4 | k4
        · exact Or.inr ⟨k, k1, k2, by rw [k3.1, k4]; rfl⟩
        · exact Or.inl (Or.inr ⟨k, k1, k2, by rw [k3.1, k4]; rfl⟩)
    · intro h4
      refine ⟨Int.lt_of_not_ge fun y => h4 (Or.inl ?_), ?_, fun h5 => h4 ?_⟩
      · rw [decide_eq_true y, Bool.or_true]
      · cases y : chk U w (cK U w cc i) with
        | true => rfl
        | false => exact (h4 (Or.inl (by rw [y]; rfl))).elim
      · rcases h5 with (h5 | ⟨k, k1, k2, k3⟩) | ⟨k, k1, k2, k3⟩
        · cases h5
        · rw [Bool.and_eq_true] at k3
          exact Or.inr ⟨k, k1, k2, by rw [k3.1, k3.2]; simp⟩
        · rw [Bool.and_eq_true] at k3
          exact Or.inr ⟨k, k1, k2, by rw [k3.1, k3.2]; simp⟩
  have mid : Rn r 286 85 [some (vR (some (A 2 s))), some (vR (some (R 3))), some (vR (some (A 4 cc))), some (vI (iI (ahd U w cc))), some (vI (iI i)), some (vR (some (A 0 (cK U w cc i)))), some (vI (iI (U 39 (4 * cc + i)))), l7, l8, l9, l10, l11] [vI (bI ((!chk U w (cK U w cc i) || decide (cK U w cc i ≤ 1)) = true))] h Q := by
    rw [sX20_judge_85, sX20_judge_87, sX20_judge_88, sX20_judge_89 (cr.kk kt (by decide)), cr.ii kt rfl, show hI v.1 (A 2 s) 11 = iI (ins U w c s) from hi, sX20_judge_92 ku, c_checked kx io, Kt_v, sX20_judge_95, sX20_judge_97, sX20_judge_98]
    refine jm_may kx ca (chO_ok qw) (fun l9 => ?_) (U 3 w).toNat 0 _ (Int.le_refl _) (by omega) hF
    rw [sX20_judge_179, sX20_judge_181]
    cases F with
    | false =>
      rw [if_pos (cnd.mpr rfl)] at q
      rw [if_neg (by decide), sX20_judge_184, sX20_judge_185, sX20_judge_186, sX20_judge_188, sX20_judge_190 a1, a2, sX20_judge_193 ku, show (3 : Int32) = iI 3 from rfl]
      refine jk_m1 j hs hX cr jk hi (by omega) (by omega) (p39 j) (by omega) (fun h2 v2 c2 jk2 hi2 => ?_)
      rw [Kt_0]
      refine jm_4 j hs hX c2 jk2 hi2 (by rw [List.length_append, List.length_singleton]; omega) hc i0 z (fun h' v' l5 l6 l7 l8 l9 l10 l11 c' jk' hi' => q h' v' _ _ _ _ _ _ _ c' ?_ hi')
      rw [← List.append_assoc]
      exact jk'
    | true =>
      rw [if_neg (fun y => by have := cnd.mp y; cases this)] at q
      rw [if_pos (by decide)]
      exact jm_4 j hs hX cr jk hi (by omega) hc i0 z (fun h' v' l5 l6 l7 l8 l9 l10 l11 c' jk' hi' => q h' v' _ _ _ _ _ _ _ c' jk' hi')
  rw [sX20_judge_54, sX20_judge_55, sX20_judge_57 ku, c_isChecked kx ca, Kt_v, sX20_judge_60]
  by_cases y : chk U w (cK U w cc i) = true
  · rw [y, Bool.not_true, Bool.false_or] at mid
    rw [if_neg (by rw [bI_t y]; decide), sX20_judge_63, sX20_judge_65 a1, a2, sX20_judge_68]
    by_cases x0 : cK U w cc i = 0
    · rw [decide_eq_true (p := cK U w cc i ≤ 1) (by omega)] at mid
      rw [if_pos (by rw [show (0 : Int32) = iI 0 from rfl, iI_eq (by omega) (by omega) (by omega) (by omega)]; exact x0), sX20_judge_80, sX20_judge_81]
      exact mid
    · rw [if_neg (by rw [show (0 : Int32) = iI 0 from rfl, iI_eq (by omega) (by omega) (by omega) (by omega)]; exact x0), sX20_judge_71, sX20_judge_73 a1, a2, sX20_judge_76, sX20_judge_77]
      by_cases x1 : cK U w cc i = 1
      · rw [decide_eq_true (p := cK U w cc i ≤ 1) (by omega)] at mid
        rw [if_neg (by rw [show (1 : Int32) = iI 1 from rfl, Ne, iI_eq (by omega) (by omega) (by omega) (by omega)]; exact fun t => t x1), sX20_judge_80, sX20_judge_81]
        exact mid
      · rw [decide_eq_false (p := cK U w cc i ≤ 1) (by omega)] at mid
        rw [if_pos (by rw [show (1 : Int32) = iI 1 from rfl, Ne, iI_eq (by omega) (by omega) (by omega) (by omega)]; exact x1), sX20_judge_84]
        exact mid
  · have y' : chk U w (cK U w cc i) = false := by simpa using y
    rw [y', Bool.not_false, Bool.true_or] at mid
    rw [if_pos (by rw [bI_f y]; rfl), sX20_judge_80, sX20_judge_81]
    exact mid
/-- all kinds of a catch -/
theorem jm_l (j : JP w g U c l) (hs : As w U s) (e9 : U 20 s = 9) (hX : X.length ≤ 800) (hc : As w U (cc / 4) ∧ cc % 4 < U 33 (cc / 4)) :
    ∀ (n : Nat) (i : Int) (h : am_H) (v : vT) (Z : List tMi) (l5 l6 l7 l8 l9 l10 l11 : Option am_V), 0 ≤ i → i + n = U 37 cc → CR h v → JK R A T w p0 U c l L0 Nd X s v0 v N Z Bs → IF A w U c v s → Z.length + 3 * n ≤ 88 → (∀ h' v', CR h' v' → JK R A T w p0 U c l L0 Nd X s v0 v' N (Z ++ tCat (mCj U w (chO U w (ins U w c s)) cc) n i) Bs → IF A w U c v' s → Q (Sum.inl none) h') →
    Rn r 286 3 [some (vR (some (A 2 s))), some (vR (some (R 3))), some (vR (some (A 4 cc))), some (vI (iI (ahd U w cc))), some (vI (iI i)), l5, l6, l7, l8, l9, l10, l11] [] h Q := by
  have b37 := QV_b j.2.1.2.1 (f := 37) (c := 4) rfl rfl rfl cc
  intro n
  induction n with
  | zero =>
    intro i h v Z l5 l6 l7 l8 l9 l10 l11 i0 hn cr jk hi hZ q
    obtain ⟨kc, _, _, _, ll, rl, _, nl⟩ := (CFx jk.gx hc).1
    obtain ⟨kl', n0, sz', gt'⟩ := nl.raw cr
    rw [sX20_judge_3, sX20_judge_5, sX20_judge_6 (cr.kk kc (by decide)), cr.rr kc rfl, rl, sX20_judge_9 kl', sz', Kt_v, sX20_judge_12, if_pos (by rw [iI_le (by omega) (by omega) (by omega) (by omega)]; omega), sX20_judge_312]
    refine q h v cr ?_ hi
    rw [show tCat (mCj U w (chO U w (ins U w c s)) cc) 0 i = [] from rfl, List.append_nil]
    exact jk
  | succ n ih =>
    intro i h v Z l5 l6 l7 l8 l9 l10 l11 i0 hn cr jk hi hZ q
    obtain ⟨kc, _, _, _, ll, rl, _, nl⟩ := (CFx jk.gx hc).1
    obtain ⟨kl', n0, sz', gt'⟩ := nl.raw cr
    obtain ⟨en, ge, ke, re, pe⟩ := gt' i i0 (by omega)
    have ej : iI i + (1 : Int32) = iI (i + 1) := by rw [i_1, iI_add]
    have nx : ∀ h' v' l5 l6 l7 l8 l9 l10 l11, CR h' v' → JK R A T w p0 U c l L0 Nd X s v0 v' N (Z ++ mCj U w (chO U w (ins U w c s)) cc i) Bs → IF A w U c v' s → Rn r 286 306 [some (vR (some (A 2 s))), some (vR (some (R 3))), some (vR (some (A 4 cc))), some (vI (iI (ahd U w cc))), some (vI (iI i)), l5, l6, l7, l8, l9, l10, l11] [] h' Q := fun h' v' l5 l6 l7 l8 l9 l10 l11 c' jk' hi' => by
      rw [sX20_judge_306, ej, sX20_judge_309]
      have ml := mCj_l (U := U) (w := w) (i := chO U w (ins U w c s)) (cc := cc) (k := i)
      refine ih (i + 1) h' v' _ _ _ _ _ _ _ _ (by omega) (by omega) c' jk' hi' (by rw [List.length_append]; omega) (fun h2 v2 c2 jk2 hi2 => q h2 v2 c2 ?_ hi2)
      rw [tCat_s, ← List.append_assoc]
      exact jk2
    rw [sX20_judge_3, sX20_judge_5, sX20_judge_6 (cr.kk kc (by decide)), cr.rr kc rfl, rl, sX20_judge_9 kl', sz', Kt_v, sX20_judge_12, if_neg (by rw [iI_le (by omega) (by omega) (by omega) (by omega)]; omega), sX20_judge_15, sX20_judge_16 (cr.kk kc (by decide)), cr.rr kc rfl, rl, sX20_judge_19, sX20_judge_21 kl', ge, Kt_v, sX20_judge_24 (by rw [ke]; decide), sX20_judge_27 ke, re, sX20_judge_30, sX20_judge_32, sX20_judge_33 (cr.kk kc (by decide)), cr.rr kc rfl, rl, sX20_judge_36, sX20_judge_38 kl', ge, Kt_v, sX20_judge_41 (by rw [ke]; decide), sX20_judge_44 ke, pe, sX20_judge_47, sX20_judge_49, sX20_judge_51]
    by_cases z : cK U w cc i = -1
    · rw [z, optA_n, if_pos rfl]
      have e0 : mCj U w (chO U w (ins U w c s)) cc i = [] := by unfold mCj; rw [if_pos z]
      refine nx h v _ _ _ _ _ _ _ cr ?_ hi
      rw [e0, List.append_nil]
      exact jk
    · rw [optA_s z, if_neg (by simp)]
      exact jm_3 j hs e9 hX cr jk hi (by omega) hc ⟨i0, by omega⟩ z nx
theorem c_jcat (j : JP w g U c l) (hs : As w U s) (e9 : U 20 s = 9) (hX : X.length ≤ 800) (hc : As w U (cc / 4) ∧ cc % 4 < U 33 (cc / 4)) (cr : CR h v) (jk : JK R A T w p0 U c l L0 Nd X s v0 v N Z Bs) (hi : IF A w U c v s) (hZ : Z.length ≤ 70) (q : ∀ h' v', CR h' v' → JK R A T w p0 U c l L0 Nd X s v0 v' N (Z ++ tCat (mCj U w (chO U w (ins U w c s)) cc) (U 37 cc).toNat 0) Bs → IF A w U c v' s → Q (Sum.inl none) h') : Cl r 286 [vR (some (A 2 s)), vR (some (R 3)), vR (some (A 4 cc)), vI (iI (ahd U w cc))] h Q := by
  have b37 := QV_b j.2.1.2.1 (f := 37) (c := 4) rfl rfl rfl cc
  rw [eX20_judge, sX20_judge_0, sX20_judge_1]
  exact jm_l j hs e9 hX hc (U 37 cc).toNat 0 h v Z _ _ _ _ _ _ _ (Int.le_refl _) (by omega) cr jk hi (by omega) q
end JMB
