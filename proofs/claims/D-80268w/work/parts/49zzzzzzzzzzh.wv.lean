/-! COMPONENT, 150: walks: the walker against the twin's state *-/
def hwO (S : tSt) : Int := if S 68 0 = 1 then 4 else if S 66 0 = 2 then 3 else if S 66 0 = 3 then 2 else S 66 0
/-- the walker wk -/
def WW (A : Nat → Int → Nat) (w : Int) (U : tSt) (wk : Nat) (v : vT) (S : tSt) : Prop :=
  (hK v.1 wk = 14 ∧ hI v.1 wk 0 = iI (hwO S) ∧ hJ v.1 wk 3 = lI (S 64 0) ∧ hI v.1 wk 4 = iI (S 65 0)) ∧
  (S 66 0 = 1 → hR v.1 wk 1 = some (A 0 (S 67 0)) ∧ 0 ≤ S 67 0 ∧ S 67 0 < U 3 w) ∧ (S 66 0 = 2 → hR v.1 wk 2 = some (A 2 (S 67 0)) ∧ As w U (S 67 0)) ∧
  ((0 ≤ S 65 0 ∧ S 65 0 ≤ 300) ∧ (0 ≤ S 66 0 ∧ S 66 0 ≤ 3) ∧ (∀ j, -1 ≤ S 74 j ∧ S 74 j < 100) ∧ (-1 ≤ S 67 0 ∧ S 67 0 < 100000) ∧ (S 68 0 = 0 ∨ S 68 0 = 1))
/-- what a walk may change -/
def XW (v : vT) (wk a k : Nat) : Prop := a = wk ∨ (hK v.1 a = 22 ∧ k = 5)
/-- the unit while it is walked; P: the catches that caught something -/
def WU (R : Nat → Nat) (A : Nat → Int → Nat) (T : Nat → Nat) (w p0 : Int) (U : tSt) (c l : Int → Int) (wk : Nat) (P : Int → Prop) (v0 v : vT) (S : tSt) : Prop :=
  JU R A T w p0 v U c l ∧ (∀ k, P k → hR v.1 (A 4 k) 5 = some (A 0 (S 74 k)) ∧ 0 ≤ S 74 k ∧ S 74 k < U 3 w) ∧ (∀ k, P k → As w U (k / 4) ∧ k % 4 < U 33 (k / 4)) ∧ (Fw (XW v0 wk) v0 v ∧ hN v.1 = hN v0.1 ∧ hS v.1 = hS v0.1)
/-- both -/
def WV (R : Nat → Nat) (A : Nat → Int → Nat) (T : Nat → Nat) (w p0 : Int) (U : tSt) (c l : Int → Int) (wk : Nat) (P : Int → Prop) (v0 v : vT) (S : tSt) : Prop := WW A w U wk v S ∧ WU R A T w p0 U c l wk P v0 v S
section WVS
variable {R : Nat → Nat} {A : Nat → Int → Nat} {T : Nat → Nat} {w p0 : Int} {U S S' : tSt} {c l : Int → Int} {wk r : Nat} {P : Int → Prop} {v0 v v' : vT} {h : am_H} {Q : am_O → am_H → Prop}
theorem WV.gx (x : WV R A T w p0 U c l wk P v0 v S) : GX R A T w p0 v U := x.2.1.1
theorem WV.kw (x : WV R A T w p0 U c l wk P v0 v S) : hK v.1 wk = 14 := x.1.1.1
theorem fw0 : Fw (fun a _ => a = wk) v v := Fw.refl
theorem fwI {k : Nat} {y : Int32} (f : Fw (fun a _ => a = wk) v v') : Fw (fun a _ => a = wk) v (vpI v' wk k y) := f.pI (Or.inr rfl)
theorem fwR {k : Nat} {y : Option Nat} (f : Fw (fun a _ => a = wk) v v') : Fw (fun a _ => a = wk) v (vpR v' wk k y) := f.pR (Or.inr rfl)
theorem fwJ {k : Nat} {y : Int64} (f : Fw (fun a _ => a = wk) v v') : Fw (fun a _ => a = wk) v (vpJ v' wk k y) := f.pJ (Or.inr rfl)
theorem WU_wk (u : WU R A T w p0 U c l wk P v0 v S) (kw : hK v.1 wk = 14) (f : Fw (fun a _ => a = wk) v v') (e1 : hN v'.1 = hN v.1) (e2 : hS v'.1 = hS v.1) (e : S' 74 = S 74) : WU R A T w p0 U c l wk P v0 v' S' := by
  obtain ⟨ju, u1, u2, u3, u4, u5⟩ := u
  refine ⟨JU_fr ju f (fun a k y _ => Or.inr (Or.inl (Or.inl (by rw [y]; exact kw)))), fun k hk => ?_, u2, u3.trans (f.mono (fun a k y => Or.inl y)), by rw [e1, u4], by rw [e2, u5]⟩
  have ck := (ju.1.2.2.2.2.2.2.2.1 k (u2 k hk).1 (u2 k hk).2).1.1
  rw [e, (f.ff (k := 5) (hK_lt ck (by decide)) (fun y => by rw [y, kw] at ck; omega)).2.2]
  exact u1 k hk
theorem WV_cg (x : WV R A T w p0 U c l wk P v0 v S) (e : ∀ f, 64 ≤ f ∧ f ≤ 68 ∨ f = 74 → S' f = S f) : WV R A T w p0 U c l wk P v0 v S' := by
  unfold WV WW WU hwO at *
  rw [e 64 (by omega), e 65 (by omega), e 66 (by omega), e 67 (by omega), e 68 (by omega), e 74 (by omega)]
  exact x
theorem hwO_b (ww : WW A w U wk v S) : 0 ≤ hwO S ∧ hwO S ≤ 4 := by
  obtain ⟨_, _, _, _, b, _⟩ := ww
  unfold hwO
  split
  · omega
  · split
    · omega
    · split
      · omega
      · omega
theorem hwO_0 (ww : WW A w U wk v S) : hwO S = 0 ↔ S 68 0 = 0 ∧ S 66 0 = 0 := by
  obtain ⟨_, _, _, _, b, _, _, d⟩ := ww
  unfold hwO
  split
  · omega
  · split
    · omega
    · split
      · omega
      · omega
theorem hwO_1 (ww : WW A w U wk v S) : hwO S = 1 ↔ S 68 0 = 0 ∧ S 66 0 = 1 := by
  obtain ⟨_, _, _, _, b, _, _, d⟩ := ww
  unfold hwO
  split
  · omega
  · split
    · omega
    · split
      · omega
      · omega
theorem hwO_2 (ww : WW A w U wk v S) : hwO S = 2 ↔ S 68 0 = 0 ∧ S 66 0 = 3 := by
  obtain ⟨_, _, _, _, b, _, _, d⟩ := ww
  unfold hwO
  split
  · omega
  · split
    · omega
    · split
      · omega
      · omega
theorem hwO_3 (ww : WW A w U wk v S) : hwO S = 3 ↔ S 68 0 = 0 ∧ S 66 0 = 2 := by
  obtain ⟨_, _, _, _, b, _, _, d⟩ := ww
  unfold hwO
  split
  · omega
  · split
    · omega
    · split
      · omega
      · omega
theorem hwO_4 (ww : WW A w U wk v S) : hwO S = 4 ↔ S 68 0 = 1 := by
  obtain ⟨_, _, _, _, b, _, _, d⟩ := ww
  unfold hwO
  split
  · omega
  · split
    · omega
    · split
      · omega
      · omega
/-- a test of the field how -/
theorem how_eq (ww : WW A w U wk v S) {n : Int} (hn : 0 ≤ n ∧ n ≤ 4) : hI v.1 wk 0 = iI n ↔ hwO S = n := by
  have b := hwO_b ww
  rw [ww.1.2.1]
  exact iI_eq (by omega) (by omega) (by omega) (by omega)
theorem wk_goes (cr : CR h v) (ww : WW A w U wk v S) : Cl r 159 [vR (some wk)] h Q ↔ Q (Sum.inl (some (vI (bI (S 68 0 = 0 ∧ S 66 0 = 0))))) h := by
  have kw := ww.1.1
  rw [eX5_goes, sX5_goes_0, sX5_goes_1 (cr.kk kw (by decide)), cr.ii kw rfl, sX5_goes_4, i_0]
  by_cases z : S 68 0 = 0 ∧ S 66 0 = 0
  · rw [if_neg (fun y => y ((how_eq ww (by omega)).mpr ((hwO_0 ww).mpr z))), sX5_goes_7, sX5_goes_8, sX5_goes_12 rfl, bI_t z]
    exact Iff.rfl
  · rw [if_pos (fun y => z ((hwO_0 ww).mp ((how_eq ww (by omega)).mp y))), sX5_goes_11, sX5_goes_12 rfl, bI_f z]
    exact Iff.rfl
theorem wk_step (cr : CR h v) (x : WV R A T w p0 U c l wk P v0 v S) (h68 : S 68 0 = 0) (q1 : S 65 0 = 300 → ∀ h' v', CR h' v' → WV R A T w p0 U c l wk P v0 v' (tStpS S) → Q (Sum.inl (some (vI 0))) h') (q2 : S 65 0 ≠ 300 → ∀ h' v', CR h' v' → WV R A T w p0 U c l wk P v0 v' (tStpS S) → Q (Sum.inl (some (vI 1))) h') : Cl r 194 [vR (some wk)] h Q := by
  obtain ⟨ww, wu⟩ := x
  obtain ⟨⟨kw, i0, j3, i4⟩, t1, t2, b65, b66, b74, b67, b68⟩ := id ww
  rw [eX5_step, sX5_step_0, sX5_step_1 (cr.kk kw (by decide)), cr.ii kw rfl, i4, sX5_step_4, sX5_step_7, i_300]
  by_cases z : S 65 0 = 300
  · rw [if_neg (fun y => y (by rw [z])), sX5_step_10, sX5_step_11, sX5_step_12 (cr.kk kw (by decide)), sX5_step_15, sX5_step_16 rfl]
    refine q1 z _ _ (CR_pI cr kw rfl) ⟨⟨⟨kw, ?_, ?_, ?_⟩, ?_, ?_, ?_, ?_, ?_, ?_, ?_⟩, WU_wk wu kw (fwI fw0) rfl rfl ?_⟩
    · rw [vpI_1, hI_putI, if_pos ⟨rfl, rfl⟩]
      unfold hwO tStpS
      simp only [up_eq, true_and, false_and, and_true, and_false, and_self, if_true, if_false, eq_self, Nat.reduceEqDiff, reduceIte, z]
      rfl
    · unfold tStpS; simp only [up_eq, true_and, false_and, and_true, and_false, and_self, if_true, if_false, eq_self, Nat.reduceEqDiff, reduceIte]; exact j3
    · rw [vpI_1, hI_putI, if_neg (by omega)]
      unfold tStpS; simp only [up_eq, true_and, false_and, and_true, and_false, and_self, if_true, if_false, eq_self, Nat.reduceEqDiff, reduceIte, z]; rw [i4, z]
    · unfold tStpS; simp only [up_eq, true_and, false_and, and_true, and_false, and_self, if_true, if_false, eq_self, Nat.reduceEqDiff, reduceIte]; exact t1
    · unfold tStpS; simp only [up_eq, true_and, false_and, and_true, and_false, and_self, if_true, if_false, eq_self, Nat.reduceEqDiff, reduceIte]; exact t2
    · unfold tStpS; simp only [up_eq, true_and, false_and, and_true, and_false, and_self, if_true, if_false, eq_self, Nat.reduceEqDiff, reduceIte]; rw [if_pos z]; exact b65
    · unfold tStpS; simp only [up_eq, true_and, false_and, and_true, and_false, and_self, if_true, if_false, eq_self, Nat.reduceEqDiff, reduceIte]; exact b66
    · unfold tStpS; simp only [up_eq, true_and, false_and, and_true, and_false, and_self, if_true, if_false, eq_self, Nat.reduceEqDiff, reduceIte]; exact b74
    · unfold tStpS; simp only [up_eq, true_and, false_and, and_true, and_false, and_self, if_true, if_false, eq_self, Nat.reduceEqDiff, reduceIte]; exact b67
    · unfold tStpS; simp only [up_eq, true_and, false_and, and_true, and_false, and_self, if_true, if_false, eq_self, Nat.reduceEqDiff, reduceIte]; rw [if_pos z]; exact Or.inr rfl
    · unfold tStpS; rw [up_n (by decide), up_n (by decide)]
  · rw [if_pos (fun y => z ((iI_eq (by omega) (by omega) (by omega) (by omega)).mp y)), sX5_step_17, sX5_step_18, sX5_step_19 (cr.kk kw (by decide)), cr.ii kw rfl, i4, sX5_step_22, sX5_step_23, i_1, iI_add, sX5_step_24 (cr.kk kw (by decide)), sX5_step_27, sX5_step_28 rfl]
    refine q2 z _ _ (CR_pI cr kw rfl) ⟨⟨⟨kw, ?_, ?_, ?_⟩, ?_, ?_, ?_, ?_, ?_, ?_, ?_⟩, WU_wk wu kw (fwI fw0) rfl rfl ?_⟩
    · rw [vpI_1, hI_putI, if_neg (by omega), i0]
      unfold hwO tStpS
      simp only [up_eq, true_and, false_and, and_true, and_false, and_self, if_true, if_false, eq_self, Nat.reduceEqDiff, reduceIte]
      rw [if_neg z, h68]
    · unfold tStpS; simp only [up_eq, true_and, false_and, and_true, and_false, and_self, if_true, if_false, eq_self, Nat.reduceEqDiff, reduceIte]; exact j3
    · rw [vpI_1, hI_putI, if_pos ⟨rfl, rfl⟩]
      unfold tStpS; simp only [up_eq, true_and, false_and, and_true, and_false, and_self, if_true, if_false, eq_self, Nat.reduceEqDiff, reduceIte]; rw [if_neg z]
    · unfold tStpS; simp only [up_eq, true_and, false_and, and_true, and_false, and_self, if_true, if_false, eq_self, Nat.reduceEqDiff, reduceIte]; exact t1
    · unfold tStpS; simp only [up_eq, true_and, false_and, and_true, and_false, and_self, if_true, if_false, eq_self, Nat.reduceEqDiff, reduceIte]; exact t2
    · unfold tStpS; simp only [up_eq, true_and, false_and, and_true, and_false, and_self, if_true, if_false, eq_self, Nat.reduceEqDiff, reduceIte]; rw [if_neg z]; omega
    · unfold tStpS; simp only [up_eq, true_and, false_and, and_true, and_false, and_self, if_true, if_false, eq_self, Nat.reduceEqDiff, reduceIte]; exact b66
    · unfold tStpS; simp only [up_eq, true_and, false_and, and_true, and_false, and_self, if_true, if_false, eq_self, Nat.reduceEqDiff, reduceIte]; exact b74
    · unfold tStpS; simp only [up_eq, true_and, false_and, and_true, and_false, and_self, if_true, if_false, eq_self, Nat.reduceEqDiff, reduceIte]; exact b67
    · unfold tStpS; simp only [up_eq, true_and, false_and, and_true, and_false, and_self, if_true, if_false, eq_self, Nat.reduceEqDiff, reduceIte]; rw [if_neg z]; exact Or.inl rfl
    · unfold tStpS; rw [up_n (by decide), up_n (by decide)]
theorem wk_draw {n : Int} (cr : CR h v) (x : WV R A T w p0 U c l wk P v0 v S) (hn : 1 ≤ n ∧ n ≤ 100) (q : ∀ h' v', CR h' v' → WV R A T w p0 U c l wk P v0 v' (tDrwS S) → Q (Sum.inl (some (vI (dV (dZ (lI (S 64 0))) n)))) h') : Cl r 253 [vR (some wk), vI (iI n)] h Q := by
  obtain ⟨ww, wu⟩ := x
  obtain ⟨⟨kw, i0, j3, i4⟩, t1, t2, b65, b66, b74, b67, b68⟩ := id ww
  have e0 : ¬ (iI n).toInt64 = 0 := by
    rw [← Int64.toInt_inj, Int32.toInt_toInt64, iI_toInt (by omega) (by omega)]
    show ¬ n = 0
    omega
  have kh := cr.kk kw (by decide)
  rw [eX5_draw, sX5_draw_0, sX5_draw_1, sX5_draw_2 kh, cr.jj kw rfl, j3, sX5_draw_5, sX5_draw_8, sX5_draw_9, sX5_draw_12, sX5_draw_13 kh, sX5_draw_16, sX5_draw_17 (by rw [hK_putJ]; exact kh), hJ_putJ, if_pos ⟨rfl, rfl⟩, sX5_draw_20, sX5_draw_22, sX5_draw_23, sX5_draw_24, sX5_draw_25 e0, sX5_draw_26, sX5_draw_27]
  refine q _ _ (CR_pJ cr kw rfl) ⟨⟨⟨kw, ?_, ?_, ?_⟩, ?_, ?_, ?_, ?_, ?_, ?_, ?_⟩, WU_wk wu kw (fwJ fw0) rfl rfl ?_⟩
  · unfold hwO tDrwS; simp only [up_eq, true_and, false_and, and_true, and_false, and_self, if_true, if_false, eq_self, Nat.reduceEqDiff, reduceIte]; exact i0
  · rw [vpJ_1, hJ_putJ, if_pos ⟨rfl, rfl⟩]
    unfold tDrwS; simp only [up_eq, true_and, false_and, and_true, and_false, and_self, if_true, if_false, eq_self, Nat.reduceEqDiff, reduceIte]; rw [lI_of]; rfl
  · unfold tDrwS; simp only [up_eq, true_and, false_and, and_true, and_false, and_self, if_true, if_false, eq_self, Nat.reduceEqDiff, reduceIte]; exact i4
  · unfold tDrwS; simp only [up_eq, true_and, false_and, and_true, and_false, and_self, if_true, if_false, eq_self, Nat.reduceEqDiff, reduceIte]; exact t1
  · unfold tDrwS; simp only [up_eq, true_and, false_and, and_true, and_false, and_self, if_true, if_false, eq_self, Nat.reduceEqDiff, reduceIte]; exact t2
  · unfold tDrwS; simp only [up_eq, true_and, false_and, and_true, and_false, and_self, if_true, if_false, eq_self, Nat.reduceEqDiff, reduceIte]; exact b65
  · unfold tDrwS; simp only [up_eq, true_and, false_and, and_true, and_false, and_self, if_true, if_false, eq_self, Nat.reduceEqDiff, reduceIte]; exact b66
  · unfold tDrwS; simp only [up_eq, true_and, false_and, and_true, and_false, and_self, if_true, if_false, eq_self, Nat.reduceEqDiff, reduceIte]; exact b74
  · unfold tDrwS; simp only [up_eq, true_and, false_and, and_true, and_false, and_self, if_true, if_false, eq_self, Nat.reduceEqDiff, reduceIte]; exact b67
  · unfold tDrwS; simp only [up_eq, true_and, false_and, and_true, and_false, and_self, if_true, if_false, eq_self, Nat.reduceEqDiff, reduceIte]; exact b68
  · unfold tDrwS; rw [up_n (by decide)]
end WVS
