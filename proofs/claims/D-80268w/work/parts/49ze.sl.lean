/-! THE TWIN: what holds of the scalars between calls is kept by read *-/
section SLS
variable {m : Nat} {h : am_H} {w v : Int} {S T U U1 : tSt} {k : Nat}
theorem SL_rd (hS : SL S) (w0 : 0 ≤ w) (w1 : w ≤ 1) : SL (tRun (1 - w) 2001 (tBgn S w) (tClear (1 - w) U1)).1 := by
  have pi := PI_bg2 (U1 := U1) hS w0 w1
  have dn := tRun_done 2001 _ _ pi (fun _ => by have := pi.1.2.1; omega)
  have ks := KS_run (w := 1 - w) 2001 (tBgn S w) (tClear (1 - w) U1)
  generalize tRun (1 - w) 2001 (tBgn S w) (tClear (1 - w) U1) = R at *
  have o : ∀ f, f ≠ 47 → f ≠ 49 → f ≠ 50 → f ≠ 51 → tBgn S w f = _ := fun f a b c d => tAdv_o f a b c d
  have v := SI_v dn.2.1
  have e0 : R.1 0 = S 0 := by
    rw [ks 0 rfl, o 0 (by decide) (by decide) (by decide) (by decide)]
    simp (disch := decide) only [up_n]
  have e58 : R.1 58 = S 58 := by
    rw [ks 58 rfl, o 58 (by decide) (by decide) (by decide) (by decide)]
    simp (disch := decide) only [up_n]
  have e59 : R.1 59 = S 59 := by
    rw [ks 59 rfl, o 59 (by decide) (by decide) (by decide) (by decide)]
    simp (disch := decide) only [up_n]
  have e1 : R.1 1 0 = 0 := by
    rw [ks 1 rfl, o 1 (by decide) (by decide) (by decide) (by decide)]
    simp only [up_eq, true_and, false_and, and_true, and_false, and_self, if_true, if_false, eq_self, Nat.reduceEqDiff, reduceIte]
  refine ⟨by rw [e0]; exact hS.1, by omega, v.1, v.2.1, ?_⟩
  intro j
  rw [e58, e59]
  exact hS.2.2.2.2 j
theorem SL_2 (hS : SL S) : SL (up S 2 0 v) := by
  unfold SL QA
  simp only [up_eq, true_and, false_and, and_true, and_false, and_self, if_true, if_false, eq_self, Nat.reduceEqDiff, reduceIte]
  exact hS
theorem SL_jdg (hS : SL S) (c : QC h m w S U) (qa : QA (tJdg U w k S)) (L : List tMi) : SL (mP (up (tJdg U w k S) 57 0 v) L) := by
  have e : ∀ f, f ≠ 58 → f ≠ 59 → tJdg U w k S f = S f := fun f a b => by
    unfold tJdg
    rw [tSwps_o f a, tLeft_o f a b]
  have g : ∀ f, f ≠ 60 → f ≠ 61 → f ≠ 62 → f ≠ 63 → f ≠ 57 → mP (up (tJdg U w k S) 57 0 v) L f = tJdg U w k S f := fun f a b c d e => by
    rw [mP_o a b c d, up_n e]
  have e0 := (g 0 (by decide) (by decide) (by decide) (by decide) (by decide)).trans (e 0 (by decide) (by decide))
  have e1 := (g 1 (by decide) (by decide) (by decide) (by decide) (by decide)).trans (e 1 (by decide) (by decide))
  have e53 := (g 53 (by decide) (by decide) (by decide) (by decide) (by decide)).trans (e 53 (by decide) (by decide))
  have e54 := (g 54 (by decide) (by decide) (by decide) (by decide) (by decide)).trans (e 54 (by decide) (by decide))
  have e58 := g 58 (by decide) (by decide) (by decide) (by decide) (by decide)
  have e59 := g 59 (by decide) (by decide) (by decide) (by decide) (by decide)
  unfold SL
  rw [e0, e1, e53, e54]
  refine ⟨hS.1, hS.2.1, hS.2.2.1, hS.2.2.2.1, ?_⟩
  intro j
  rw [e58, e59]
  exact qa j
end SLS
