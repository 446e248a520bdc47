/-! PURE: the rows while a text is read, 3: blocks' ends, the loop -/
section PPI4
variable {w : Int} {S S' U U' : tSt}
theorem TK_len {n : Nat} (h : TK S) (hx : tB n ≤ S 50 0 * 2) : (n : Int) < S 47 0 - S 49 0 := by
  obtain ⟨h1, h2, -, -⟩ := h
  have : ¬ (S 47 0 - S 49 0).toNat ≤ n := fun q => by
    have := tB_mono q
    omega
  omega
theorem PI_catch {s : Int} (h : PI w S U) (hc : S 50 0 = wCatch) (hs : 120 * w ≤ s ∧ s < 120 * w + U 19 w) : PI w (tCatch w s S U).1 (tCatch w s S U).2 := by
  have hl := TK_len (n := 4) h.2.1 (by rw [hc]; decide)
  have v := tAdv_val h.1.1
  have a1 := PI_adv h
  have u4 := h.2.2.2.2.2.2.1
  unfold tCatch
  split
  · exact PI_fail h
  · rename_i q0
    split
    · have b1 := PI_cau (c := 4 * s + U 33 s) (PI_up (f := 37) (j := 4 * s + U 33 s) (x := 0) a1 rfl) 5
      have k1 := (Tks_cau (c := 4 * s + U 33 s) 5 (tAdv S) (up U 37 (4 * s + U 33 s) 0) a1.1 a1.2.1).2.2.1
      have e : ∀ g, g ≠ 37 → g ≠ 38 → g ≠ 39 → (tCau (4 * s + U 33 s) 5 (tAdv S) (up U 37 (4 * s + U 33 s) 0)).2.2 g = U g := fun g q1 q2 q3 => by rw [tCau_u g q1 q2 q3, up_n q1]
      generalize tCau (4 * s + U 33 s) 5 (tAdv S) (up U 37 (4 * s + U 33 s) 0) = R at *
      have e9 := e 9 (by decide) (by decide) (by decide)
      have e19 := e 19 (by decide) (by decide) (by decide)
      have e40 := e 40 (by decide) (by decide) (by decide)
      have e33 := e 33 (by decide) (by decide) (by decide)
      split
      · unfold tCatch2
        split
        · have b2 := PI_name b1
          have k2 := (Tks_name b1.1 b1.2.1).2.2.1
          unfold tCatch3
          split
          · have b3 := PI_adv b2
            have k3 := (Tks_adv b2.1 b2.2.1).2.2.1
            refine PI_opn ?_ rfl ?_ (by omega) (fun _ => by simp only [up_eq, true_and, false_and, and_true, and_false, and_self, if_true, if_false, eq_self, Nat.reduceEqDiff, reduceIte]; rw [e19]; exact hs)
            · obtain ⟨h1, h2, h3, u1, u2, u3, u4, u5, u6, u7⟩ := b3
              refine ⟨h1, h2, h3, ?_⟩
              unfold PU
              simp only [up_eq, true_and, false_and, and_true, and_false, and_self, if_true, if_false, eq_self, Nat.reduceEqDiff, reduceIte]
              refine ⟨u1, u2, u3, u4, u5, u6, fun s' z1 z2 => ?_⟩
              have := u7 s' z1 z2
              by_cases e : s' = s
              · subst e
                simp only [if_true]
                rw [e33] at *
                omega
              · simp only [e, if_false]
                exact this
            · simp only [up_eq, true_and, false_and, and_true, and_false, and_self, if_true, if_false, eq_self, Nat.reduceEqDiff, reduceIte]
              rw [e9, e19, e40]
              omega
          · exact PI_up (PI_up (PI_fail b2) rfl) rfl
        · exact PI_fail b1
      · exact b1
    · exact PI_up (PI_fail a1) rfl
theorem PI_behind {s : Int} {b : Bool} (h : PI w S U) (hs : 120 * w ≤ s ∧ s < 120 * w + U 19 w) : PI w (tBehind w s b S U).1 (tBehind w s b S U).2 := by
  unfold tBehind
  split
  · rename_i q
    exact PI_catch h q hs
  · split
    · rename_i q
      have hl := TK_len (n := 4) h.2.1 (by rw [q]; decide)
      have v := tAdv_val h.1.1
      have u4 := h.2.2.2.2.2.2.1
      exact PI_opn (PI_adv h) rfl (by omega) (by omega) (fun _ => hs)
    · split
      · exact PI_fail h
      · exact h
theorem PI_dec (h : PI w S U) (hd : 1 ≤ S 55 0) : PI w (up S 55 0 (S 55 0 - 1)) U := by
  obtain ⟨h1, h2, h3, u1, u2, u3, u4, u5, u6, u7⟩ := h
  refine ⟨SI_dec h1 hd, ?_, by simp only [up_eq, true_and, false_and, and_true, and_false, and_self, if_true, if_false, eq_self, Nat.reduceEqDiff, reduceIte]; exact h3, ?_⟩
  · unfold TK
    simp only [up_eq, true_and, false_and, and_true, and_false, and_self, if_true, if_false, eq_self, Nat.reduceEqDiff, reduceIte]
    exact h2
  · unfold PU
    simp only [up_eq, true_and, false_and, and_true, and_false, and_self, if_true, if_false, eq_self, Nat.reduceEqDiff, reduceIte]
    exact ⟨u1, u2, u3, u4, fun j j1 j2 => u5 j j1 (by omega), u6, u7⟩
theorem PI_close (h : PI w S U) (hd : 1 ≤ S 55 0) : PI w (tClose w S U).1 (tClose w S U).2 := by
  have a1 := PI_adv (PI_dec h hd)
  obtain ⟨h1, h2, h3, u1, u2, u3, u4, u5, u6, u7⟩ := h
  have hb := u5 (S 55 0 - 1) (by omega) (by omega)
  have ub := u6 _ hb.1 hb.2
  unfold tClose
  generalize tAdv (up S 55 0 (S 55 0 - 1)) = S1 at *
  generalize S 56 (S 55 0 - 1) = b at *
  unfold tShut
  split
  · exact PI_take a1
  · split
    · rename_i q0 q1
      have hs := ub.2.2 (by omega)
      split
      · rename_i q
        have hl := TK_len (n := 3) a1.2.1 (by rw [q]; decide)
        have v := tAdv_val a1.1.1
        have u4 := a1.2.2.2.2.2.2.1
        exact PI_opn (PI_adv a1) rfl (by omega) (by omega) (fun _ => hs)
      · exact a1
    · split
      · rename_i q0 q1 q2
        have hs := ub.2.2 (by omega)
        split
        · exact PI_nam 5 _ _ a1 hs
        · exact PI_take a1
      · split
        · rename_i q
          exact PI_behind a1 (ub.2.2 (by omega))
        · split
          · rename_i q
            exact PI_behind a1 (ub.2.2 (by omega))
          · exact a1
theorem PI_step (h : PI w S U) : PI w (tStep w S U).1 (tStep w S U).2 := by
  have hd := h.1.2.2.2.2.2.2.2
  unfold tStep
  split
  · split
    · exact PI_kind h
    · split
      · exact PI_way h
      · exact PI_fail h
  · split
    · exact PI_close h (by omega)
    · exact PI_stmt h (by omega)
/-- a turn goes on in the text, or fails -/
def Prg (S S' : tSt) : Prop := S' 52 0 ≠ -1 ∨ S 49 0 < S' 49 0
theorem Prg_fail (h : SI S) : Prg S (tFail S) := by
  obtain ⟨s1, s2, s3, s4, s5, s6, s7, s8⟩ := h
  refine Or.inl ?_
  unfold tFail
  rw [up_s]
  split <;> omega
theorem Prg_tks {T : tSt} (h : SI S) (h2 : TK S) (hs : S 51 0 ≠ -1) (k : Tks (tAdv S) T) : Prg S T := by
  have v := tAdv_val h.1
  have := h2.2.2.1 hs
  have := k.2.2.1
  exact Or.inr (by omega)
theorem tw_bound (h : PI w S U) : U 40 w ≤ 600 := by
  have := h.2.2.2
  have := h.1.2.1
  obtain ⟨u1, u2, u3, u4, u5, u6, u7⟩ := h.2.2.2
  omega
end PPI4
