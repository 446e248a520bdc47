/-! COMPONENT, 114: left of the statements *-/
section JLS
variable {R : Nat → Nat} {A : Nat → Int → Nat} {T : Nat → Nat} {w p0 s d : Int} {U : tSt} {c l g : Int → Int} {v v' : vT} {r : Nat} {h : am_H} {Q : am_O → am_H → Prop}
theorem GX.fs (gx : GX R A T w p0 v U) (hs : As w U s) : FS v A T U w (ocL U w A (stL U w (fun s => decide (U 20 s = 1)))) (clL U w A (stL U w (fun s => decide (U 20 s = 9)))) s := (gx.2.2.2.2.1 s hs).2
theorem bo_uB (hd : bo w U s d) : uB w U s d := ⟨d, hd, anc_rf⟩
theorem GX.kb (gx : GX R A T w p0 v U) (hd : Ab w U d) : hK v.1 (A 3 d) = 21 := (gx.2.2.2.2.2.1 d hd).1
theorem bo27 (j : JP w g U c l) (hs : As w U s) (h : ¬ (U 20 s ≤ 3 ∨ U 20 s = 7 ∨ U 20 s = 8)) : bo w U s (U 27 s) := ((j.1.2.1 s hs).1 (fun y => h ((j.2.1.2.2.2.2.2 s hs).1 y))).1
theorem bo28 (j : JP w g U c l) (hs : As w U s) (h : U 28 s ≠ -1) : bo w U s (U 28 s) := ((j.1.2.1 s hs).2.1 h).1
theorem bo29 (j : JP w g U c l) (hs : As w U s) (h : U 29 s ≠ -1) : bo w U s (U 29 s) := ((j.1.2.1 s hs).2.2.1 h).1
theorem bo34 (j : JP w g U c l) (hs : As w U s) {k : Int} (h0 : 0 ≤ k) (h1 : k < U 33 s) : bo w U s (U 34 (4 * s + k)) := ((j.1.2.1 s hs).2.2.2 k h0 h1).1
theorem lf_30 (hs : As w U s) (e : U 20 s = 0 ∨ U 20 s = 3 ∨ U 20 s = 8) : JLf r 235 R A T w p0 U c l s := by
  intro h v Q cr gx jd q
  obtain ⟨f0, f3, _⟩ := gx.fs hs
  have k : hK v.1 (A 2 s) = 30 ∧ hI v.1 (A 2 s) 5 = iI (U 20 s) := by
    rcases e with e | e | e
    · exact ⟨(f0 (Or.inl e)).1, (f0 (Or.inl e)).2.1⟩
    · exact ⟨(f3 e).1, by rw [e]; exact (f3 e).2.1⟩
    · exact ⟨(f0 (Or.inr e)).1, (f0 (Or.inr e)).2.1⟩
  rw [eX14_left, sX14_left_0, sX14_left_1 (cr.kk k.1 (by decide)), cr.ii k.1 rfl, k.2, sX14_left_4, sX14_left_6]
  unfold lvs at q
  rcases e with e | e | e
  · rw [e, if_neg (by decide), sX14_left_9, sX14_left_10, sX14_left_14 rfl]
    rw [e] at q
    exact q
  · rw [e, if_neg (by decide), sX14_left_9, sX14_left_10, sX14_left_14 rfl]
    rw [e] at q
    exact q
  · rw [e, if_pos (show iI 8 = (8 : Int32) from rfl), sX14_left_13, sX14_left_14 rfl]
    rw [e] at q
    exact q
theorem lf_31 (e : U 20 s = 1) : JLf r 236 R A T w p0 U c l s := by
  intro h v Q cr gx jd q
  rw [eX15_left, sX15_left_0, sX15_left_1 rfl]
  unfold lvs at q
  rw [e] at q
  exact q
theorem lf_32 (e : U 20 s = 2) : JLf r 237 R A T w p0 U c l s := by
  intro h v Q cr gx jd q
  rw [eX16_left, sX16_left_0, sX16_left_1 rfl]
  unfold lvs at q
  rw [e] at q
  exact q
theorem lf_35 (e : U 20 s = 7) : JLf r 240 R A T w p0 U c l s := by
  intro h v Q cr gx jd q
  rw [eX19_left, sX19_left_0, sX19_left_1 rfl]
  unfold lvs at q
  rw [e] at q
  exact q
theorem lf_37 (e : U 20 s = 10) : JLf r 242 R A T w p0 U c l s := by
  intro h v Q cr gx jd q
  rw [eX21_left, sX21_left_0, sX21_left_1 rfl]
  unfold lvs at q
  rw [e] at q
  exact q
theorem lf_38 (j : JP w g U c l) (hs : As w U s) (e : U 20 s = 11) : JLf r 243 R A T w p0 U c l s := by
  intro h v Q cr gx jd q
  obtain ⟨_, _, _, _, _, _, _, _, _, f11, _⟩ := gx.fs hs
  obtain ⟨k1, k2⟩ := f11 e
  have bd := bo27 j hs (by omega)
  have kb := gx.kb bd.1
  rw [eX13_left, sX13_left_0, sX13_left_1 (cr.kk k1 (by decide)), cr.rr k1 rfl, k2, sX13_left_4 (cr.kk kb (by decide)), cr.ii kb rfl, (jd.1 _ bd.1 (bo_uB bd)).2, sX13_left_7 am_fit4]
  have lv : lvs U w l s = isL U l (U 27 s) := by
    unfold lvs
    rw [e]
    rfl
  rw [lv] at q
  exact q
theorem lf_33 (j : JP w g U c l) (hs : As w U s) (e : U 20 s = 4) : JLf r 238 R A T w p0 U c l s := by
  intro h v Q cr gx jd q
  obtain ⟨_, _, _, _, f4, _⟩ := gx.fs hs
  obtain ⟨k1, k2, k3⟩ := f4 e
  have bd := bo27 j hs (by omega)
  have kb := gx.kb bd.1
  have lv : lvs U w l s = (decide (U 28 s = -1) || isL U l (U 27 s) || isL U l (U 28 s)) := by
    unfold lvs
    rw [e]
    rfl
  rw [lv] at q
  rw [eX17_left, sX17_left_0, sX17_left_1 (cr.kk k1 (by decide)), cr.rr k1 rfl, k3, sX17_left_4]
  by_cases z : U 28 s = -1
  · rw [z, optA_n, if_pos rfl, sX17_left_27, sX17_left_28, sX17_left_32 rfl]
    rw [decide_eq_true z, Bool.true_or, Bool.true_or, bI_t rfl] at q
    exact q
  · have bd2 := bo28 j hs z
    have kb2 := gx.kb bd2.1
    rw [decide_eq_false z, Bool.false_or] at q
    rw [optA_s z, if_neg (by simp), sX17_left_7, sX17_left_8 (cr.kk k1 (by decide)), cr.rr k1 rfl, k2, sX17_left_11 (cr.kk kb (by decide)), cr.ii kb rfl, (jd.1 _ bd.1 (bo_uB bd)).2, sX17_left_14]
    by_cases y : isL U l (U 27 s) = true
    · rw [if_pos (by rw [bI_t y]; decide), sX17_left_27, sX17_left_28, sX17_left_32 rfl]
      rw [y, Bool.true_or, bI_t rfl] at q
      exact q
    · rw [if_neg (by rw [bI_f y]; decide), sX17_left_17, sX17_left_18 (cr.kk k1 (by decide)), cr.rr k1 rfl, k3, optA_s z, sX17_left_21 (cr.kk kb2 (by decide)), cr.ii kb2 rfl, (jd.1 _ bd2.1 (bo_uB bd2)).2, sX17_left_24]
      have y' : isL U l (U 27 s) = false := by simpa using y
      rw [y', Bool.false_or] at q
      by_cases x : isL U l (U 28 s) = true
      · rw [if_neg (by rw [bI_t x]; decide), sX17_left_27, sX17_left_28, sX17_left_32 rfl]
        rw [x, bI_t rfl] at q
        exact q
      · rw [if_pos (by rw [bI_f x]; rfl), sX17_left_31, sX17_left_32 rfl]
        rw [bI_f x] at q
        exact q
/-- the catches of a try -/
theorem lf_tl (j : JP w g U c l) (hs : As w U s) (e : U 20 s = 9) (cr : CR h v) (gx : GX R A T w p0 v U) (jd : JD A w U c l v (uB w U s)) {l1 : Option am_V} (q : ∀ l3, Rn r 241 47 [some (vR (some (A 2 s))), l1, some (vI (bI (tFor (fun k a => a || isL U l (U 34 (4 * s + k))) (U 33 s).toNat 0 (isL U l (U 27 s)) = true))), l3] [] h Q) :
    ∀ (n : Nat) (i : Int) (a : Bool), 0 ≤ i → i + n = U 33 s → tFor (fun k a => a || isL U l (U 34 (4 * s + k))) (U 33 s).toNat 0 (isL U l (U 27 s)) = tFor (fun k a => a || isL U l (U 34 (4 * s + k))) n i a → Rn r 241 10 [some (vR (some (A 2 s))), l1, some (vI (bI (a = true))), some (vI (iI i))] [] h Q := by
  have b33 := QV_b j.2.1.2.1 (f := 33) (c := 4) rfl rfl rfl s
  obtain ⟨_, _, _, _, _, _, _, f9, _⟩ := gx.fs hs
  obtain ⟨k1, k2, k3, l5, l6, l7, l9, _, ⟨_, _, _, kl⟩, ⟨_, _, _, r9⟩, _, _, _, _, lv⟩ := f9 e
  have len : (vLs v l9).length = (U 33 s).toNat := by rw [lv, rowL_len]
  intro n
  induction n with
  | zero =>
    intro i a i0 hi hf
    rw [sX20_left_10, sX20_left_11, sX20_left_12 (cr.kk k1 (by decide)), cr.rr k1 rfl, r9, sX20_left_15 (cr.kk kl (by decide)), v_size cr kl, Kt_v, sX20_left_18, len, if_pos (by rw [iI_le (by omega) (by omega) (by omega) (by omega)]; omega)]
    rw [hf] at q
    exact q _
  | succ n ih =>
    intro i a i0 hi hf
    have bd := bo34 j hs i0 (by omega)
    have kb := gx.kb bd.1
    have cA : As w U ((4 * s + i) / 4) ∧ (4 * s + i) % 4 < U 33 ((4 * s + i) / 4) := by
      rw [show (4 * s + i) / 4 = s by omega]
      exact ⟨hs, by omega⟩
    obtain ⟨cf, _, c3⟩ := gx.2.2.2.2.2.2.2.1 _ cA.1 cA.2
    have kc := cf.1
    have ge : (vLs v l9).getD i.toNat none = some (A 4 (4 * s + i)) := by rw [lv, rowL_get i0 (by omega)]
    rw [sX20_left_10, sX20_left_11, sX20_left_12 (cr.kk k1 (by decide)), cr.rr k1 rfl, r9, sX20_left_15 (cr.kk kl (by decide)), v_size cr kl, Kt_v, sX20_left_18, len, if_neg (by rw [iI_le (by omega) (by omega) (by omega) (by omega)]; omega), sX20_left_21, sX20_left_22, sX20_left_23 (cr.kk k1 (by decide)), cr.rr k1 rfl, r9, sX20_left_26, sX20_left_27 (cr.kk kl (by decide)), v_get cr kl i0 (by rw [len]; omega), Kt_v, ge, sX20_left_30 (by rw [cr.kk kc (by decide)]; decide), sX20_left_33 (cr.kk kc (by decide)), cr.rr kc rfl, c3, sX20_left_36 (cr.kk kb (by decide)), cr.ii kb rfl, (jd.1 _ bd.1 (bo_uB bd)).2, sX20_left_39, bI_or, sX20_left_40, sX20_left_41, sX20_left_44, show iI i + 1 = iI (i + 1) from iI_add i 1]
    exact ih (i + 1) _ (by omega) (by omega) hf
theorem lf_36 (j : JP w g U c l) (hs : As w U s) (e : U 20 s = 9) : JLf r 241 R A T w p0 U c l s := by
  intro h v Q cr gx jd q
  have b33 := QV_b j.2.1.2.1 (f := 33) (c := 4) rfl rfl rfl s
  obtain ⟨_, _, _, _, _, _, _, f9, _⟩ := gx.fs hs
  obtain ⟨k1, k2, k3, _⟩ := f9 e
  have bd := bo27 j hs (by omega)
  have kb := gx.kb bd.1
  rw [eX20_left, sX20_left_0, sX20_left_1 (cr.kk k1 (by decide)), cr.rr k1 rfl, k2, sX20_left_4 (cr.kk kb (by decide)), cr.ii kb rfl, (jd.1 _ bd.1 (bo_uB bd)).2, sX20_left_7, sX20_left_8, sX20_left_9]
  refine lf_tl j hs e cr gx jd (fun l3 => ?_) (U 33 s).toNat 0 _ (Int.le_refl _) (by omega) rfl
  have lv : lvs U w l s = (tFor (fun k a => a || isL U l (U 34 (4 * s + k))) (U 33 s).toNat 0 (isL U l (U 27 s)) && (decide (U 29 s = -1) || isL U l (U 29 s))) := by
    unfold lvs
    rw [e]
    rfl
  rw [lv] at q
  generalize tFor (fun k a => a || isL U l (U 34 (4 * s + k))) (U 33 s).toNat 0 (isL U l (U 27 s)) = b at *
  rw [sX20_left_47, sX20_left_48]
  cases b with
  | false =>
    rw [if_pos (show bI (false = true) = (0 : Int32) from rfl), sX20_left_72, sX20_left_73 rfl]
    exact q
  | true =>
    rw [if_neg (by decide), sX20_left_51, sX20_left_52 (cr.kk k1 (by decide)), cr.rr k1 rfl, k3, sX20_left_55]
    rw [Bool.true_and] at q
    by_cases z : U 29 s = -1
    · rw [z, optA_n, if_pos rfl, sX20_left_68, sX20_left_69, sX20_left_73 rfl]
      rw [decide_eq_true z, Bool.true_or, bI_t rfl] at q
      exact q
    · have bd2 := bo29 j hs z
      have kb2 := gx.kb bd2.1
      rw [decide_eq_false z, Bool.false_or] at q
      rw [optA_s z, if_neg (by simp), sX20_left_58, sX20_left_59 (cr.kk k1 (by decide)), cr.rr k1 rfl, k3, optA_s z, sX20_left_62 (cr.kk kb2 (by decide)), cr.ii kb2 rfl, (jd.1 _ bd2.1 (bo_uB bd2)).2, sX20_left_65]
      by_cases x : isL U l (U 29 s) = true
      · rw [if_neg (by rw [bI_t x]; decide), sX20_left_68, sX20_left_69, sX20_left_73 rfl]
        rw [x, bI_t rfl] at q
        exact q
      · rw [if_pos (by rw [bI_f x]; rfl), sX20_left_72, sX20_left_73 rfl]
        rw [bI_f x] at q
        exact q
end JLS
