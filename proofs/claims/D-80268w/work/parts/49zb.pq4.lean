/-! PURE: the rows of statements and blocks hang together, 4 *-/
section PRT
variable {w : Int} {S U : tSt} {f : Nat} {j x : Int}
theorem As_of {V : tSt} {s : Int} (h : As w U s) (e : V 19 = U 19) : As w V s := by unfold As at *; rw [e]; exact h
theorem PR_stmt2 {s x : Int} (hp : ∀ v, 0 ≤ v ∧ v ≤ 11 → PR w (up U 20 s v)) (h9 : 1 ≤ U 9 w) (hs : As w U s) : PR w (tStmt2 w s x S U).2 := by
  have ha : ∀ v, As w (up U 20 s v) s := fun v => As_of hs (up_n (by decide))
  have h99 : ∀ v, 1 ≤ up U 20 s v 9 w := fun v => by rw [up_n (by decide)]; exact h9
  unfold tStmt2
  split
  · exact hp _ (by split; omega; split <;> omega)
  · split
    · have q1 := hp (if x = wThrow then 2 else if x = wSet then 3 else 1) (by split; omega; split <;> omega)
      split
      · have q2 := PR_up (f := 26) (j := s) (x := tName S 54 0) (PR_up (f := 25) (j := s) (x := tName S 53 0) q1 rfl) rfl
        unfold tStmt3
        split
        · exact PR_opn27 q2 (by simp only [up_eq, true_and, false_and, and_true, and_false, and_self, if_true, if_false, eq_self, Nat.reduceEqDiff, reduceIte]; exact h9) (by omega) (by omega) (As_of hs (by rw [up_n (by decide), up_n (by decide), up_n (by decide)]))
        · exact q2
      · exact q1
    · split
      · exact PR_opn27 (hp _ (by split <;> omega)) (h99 _) (by split <;> omega) (by split <;> omega) (ha _)
      · split
        · exact PR_opn27 (hp _ (by split <;> omega)) (h99 _) (by omega) (by omega) (ha _)
        · have q1 := hp 9 (by omega)
          split
          · split
            · refine PR_opn27 (PR_nam q1) ?_ (by omega) (by omega) ?_
              · rw [tNam_u 9 (by decide) (by decide) (by decide)]; exact h99 _
              · exact As_of (ha 9) (tNam_u 19 (by decide) (by decide) (by decide) _ _ _)
            · exact PR_nam q1
          · exact PR_opn27 q1 (h99 _) (by omega) (by omega) (ha _)
theorem PR_stmt (p : PR w U) (h9 : 1 ≤ U 9 w) (hn : 0 ≤ U 19 w) (w0 : 0 ≤ w) (hb : Ab w U (S 56 (S 55 0 - 1))) : PR w (tStmt w S U).2 := by
  unfold tStmt
  split
  · have e : ∀ g, g = 9 ∨ g = 40 → tEnter w (w * 120 + U 19 w) (S 56 (S 55 0 - 1)) S U g = U g := fun g hg => by
      rcases hg with rfl | rfl
      · unfold tEnter tLink
        split <;> simp (disch := decide) only [up_n]
      · unfold tEnter tLink
        split <;> simp (disch := decide) only [up_n]
    have e19 : tEnter w (w * 120 + U 19 w) (S 56 (S 55 0 - 1)) S U 19 w = U 19 w + 1 := by
      unfold tEnter tLink
      split <;> simp only [up_eq, true_and, false_and, and_true, and_false, and_self, if_true, if_false, eq_self, Nat.reduceEqDiff, reduceIte]
    have hp : ∀ v, 0 ≤ v ∧ v ≤ 11 → PR w (up (tEnter w (w * 120 + U 19 w) (S 56 (S 55 0 - 1)) S U) 20 (w * 120 + U 19 w) v) := fun v hv => by
      refine ⟨PQ_ent p.1 hb h9 hv hn w0, ?_⟩
      rw [up_n (by decide), up_n (by decide), e 9 (by decide), e 40 (by decide)]
      exact p.2
    have h99 : 1 ≤ tEnter w (w * 120 + U 19 w) (S 56 (S 55 0 - 1)) S U 9 w := by rw [e 9 (by decide)]; exact h9
    have ha : As w (tEnter w (w * 120 + U 19 w) (S 56 (S 55 0 - 1)) S U) (w * 120 + U 19 w) := by
      unfold As
      rw [e19]
      omega
    split
    · exact PR_opn27 (hp 11 (by omega)) (by rw [up_n (by decide)]; exact h99) (by omega) (by omega) (As_of ha (up_n (by decide)))
    · exact PR_stmt2 hp h99 ha
  · exact p
theorem PR_catch {s : Int} (p : PR w U) (h9 : 1 ≤ U 9 w) (hs : As w U s) (h33 : 0 ≤ U 33 s) : PR w (tCatch w s S U).2 := by
  unfold tCatch
  split
  · exact p
  · have q1 : PR w (up U 37 (4 * s + U 33 s) 0) := PR_up p rfl
    split
    · have q2 := PR_cau (c := 4 * s + U 33 s) (d := 5) (S := tAdv S) q1
      have e : ∀ g, g ≠ 37 → g ≠ 38 → g ≠ 39 → (tCau (4 * s + U 33 s) 5 (tAdv S) (up U 37 (4 * s + U 33 s) 0)).2.2 g = U g := fun g q1 q2 q3 => by rw [tCau_u g q1 q2 q3, up_n q1]
      generalize tCau (4 * s + U 33 s) 5 (tAdv S) (up U 37 (4 * s + U 33 s) 0) = R at *
      split
      · unfold tCatch2
        split
        · have q3 := PR_up (f := 36) (j := 4 * s + U 33 s) (x := tName R.2.1 54 0) (PR_up (f := 35) (j := 4 * s + U 33 s) (x := tName R.2.1 53 0) q2 rfl) rfl
          have e33 : up (up R.2.2 35 (4 * s + U 33 s) (tName R.2.1 53 0)) 36 (4 * s + U 33 s) (tName R.2.1 54 0) 33 s = U 33 s := by
            rw [up_n (by decide), up_n (by decide), e 33 (by decide) (by decide) (by decide)]
          have e9 : up (up R.2.2 35 (4 * s + U 33 s) (tName R.2.1 53 0)) 36 (4 * s + U 33 s) (tName R.2.1 54 0) 9 = U 9 := by
            rw [up_n (by decide), up_n (by decide), e 9 (by decide) (by decide) (by decide)]
          have e19 : up (up R.2.2 35 (4 * s + U 33 s) (tName R.2.1 53 0)) 36 (4 * s + U 33 s) (tName R.2.1 54 0) 19 = U 19 := by
            rw [up_n (by decide), up_n (by decide), e 19 (by decide) (by decide) (by decide)]
          generalize up (up R.2.2 35 (4 * s + U 33 s) (tName R.2.1 53 0)) 36 (4 * s + U 33 s) (tName R.2.1 54 0) = V at *
          unfold tCatch3
          split
          · have q4 := PQ_33 (s := s) q3.1 (Or.inl (rfl : (-1 : Int) = -1)) (by omega)
            have q5 : PR w (up (up V 34 (4 * s + V 33 s) (-1)) 33 s (V 33 s + 1)) := ⟨q4, by simp only [up_eq, true_and, false_and, and_true, and_false, and_self, if_true, if_false, eq_self, Nat.reduceEqDiff, reduceIte]; exact q3.2⟩
            have q6 : PQ w (tOU w 6 s (V 33 s) (tAdv (tName R.2.1)) (up (up V 34 (4 * s + V 33 s) (-1)) 33 s (V 33 s + 1))) := PQ_new q5.1 (Or.inr ⟨by omega, As_of hs (by rw [up_n (by decide), up_n (by decide)]; exact e19)⟩) (fun _ => by simp only [up_eq, true_and, false_and, and_true, and_false, and_self, if_true, if_false, eq_self, Nat.reduceEqDiff, reduceIte]; omega) q5.2.1
            have q7 := PQ_34 (s := 4 * s + U 33 s) q6 (tOR_b q5.2.1)
            have q8 := PR_tail (what := 6) (own := s) (num := V 33 s) (S := tAdv (tName R.2.1)) q5 (by rw [up_n (by decide), up_n (by decide), e9]; exact h9)
            have q9 : PR w (up (tOU w 6 s (V 33 s) (tAdv (tName R.2.1)) (up (up V 34 (4 * s + V 33 s) (-1)) 33 s (V 33 s + 1))) 34 (4 * s + U 33 s) (tOR w (tAdv (tName R.2.1)) (up (up V 34 (4 * s + V 33 s) (-1)) 33 s (V 33 s + 1)))) := ⟨q7, by rw [up_n (by decide), up_n (by decide)]; exact q8⟩
            have ee : (tOpn w 6 s (V 33 s + 1 - 1) 34 (4 * s + U 33 s) (tAdv (tName R.2.1)) (up V 33 s (V 33 s + 1))).2 = up (tOU w 6 s (V 33 s) (tAdv (tName R.2.1)) (up (up V 34 (4 * s + V 33 s) (-1)) 33 s (V 33 s + 1))) 34 (4 * s + U 33 s) (tOR w (tAdv (tName R.2.1)) (up (up V 34 (4 * s + V 33 s) (-1)) 33 s (V 33 s + 1))) := by
              unfold tOpn tOU tOR tOB
              rw [e33, show U 33 s + 1 - 1 = U 33 s by omega]
              funext g i
              by_cases z : g = 34
              · subst z
                simp only [up_eq, true_and, false_and, and_true, and_false, and_self, if_true, if_false, eq_self, Nat.reduceEqDiff, reduceIte]
                by_cases y : i = 4 * s + U 33 s
                · simp only [if_pos y]
                · simp only [if_neg y]
                  split <;> simp only [up_eq, true_and, false_and, and_true, and_false, and_self, if_true, if_false, eq_self, Nat.reduceEqDiff, reduceIte, if_neg y]
              · simp only [up_eq, true_and, false_and, and_true, and_false, and_self, if_true, if_false, eq_self, Nat.reduceEqDiff, reduceIte, z]
                split <;> simp only [up_eq, true_and, false_and, and_true, and_false, and_self, if_true, if_false, eq_self, Nat.reduceEqDiff, reduceIte, z]
            rw [ee]
            exact q9
          · exact q3
        · exact q2
      · exact q2
    · exact q1
theorem PR_behind {s : Int} {b : Bool} (p : PR w U) (h9 : 1 ≤ U 9 w) (hs : As w U s) (h33 : 0 ≤ U 33 s) : PR w (tBehind w s b S U).2 := by
  unfold tBehind
  split
  · exact PR_catch p h9 hs h33
  · split
    · exact PR_opn29 p h9 (by omega) (by omega) hs
    · split <;> exact p
theorem PR_step (h : PI w S U) (w0 : 0 ≤ w) (q : QV U) (p : PR w U) : PR w (tStep w S U).2 := by
  have b9 := QV_b q (f := 9) (c := 12) rfl rfl rfl w
  have b19 := QV_b q (f := 19) (c := 120) rfl rfl rfl w
  have hd := h.1.2.2.2.2.2.2.2
  unfold tStep
  split
  · split
    · exact PR_kind p
    · split
      · exact PR_way p b9.1
      · exact p
  · obtain ⟨-, -, -, u1, u2, u3, u4, u5, u6, u7⟩ := id h
    have h5 := u5 (S 55 0 - 1) (by omega) (by omega)
    have h9 := p.2.2 (by omega)
    have ub := u6 _ h5.1 h5.2
    split
    · unfold tClose
      generalize S 56 (S 55 0 - 1) = b at *
      unfold tShut
      split
      · exact p
      · split
        · have z : As w U (U 42 b) := ub.2.2 (by omega)
          split
          · exact PR_opn28 p h9 (by omega) (by omega) z
          · exact p
        · split
          · split
            · exact PR_nam p
            · exact p
          · split
            · have z : As w U (U 42 b) := ub.2.2 (by omega)
              exact PR_behind p h9 z (QV_b q (f := 33) (c := 4) rfl rfl rfl _).1
            · split
              · have z : As w U (U 42 b) := ub.2.2 (by omega)
                exact PR_behind p h9 z (QV_b q (f := 33) (c := 4) rfl rfl rfl _).1
              · exact p
    · exact PR_stmt p h9 b19.1 w0 h5
theorem PR_run (h0 : 0 ≤ w ∧ w ≤ 1) : ∀ (d : Nat) (S U : tSt), PI w S U → QV U → PR w U → PR w (tRun w d S U).2 := by
  intro d
  induction d with
  | zero => intro S U _ _ p; exact p
  | succ d ih =>
    intro S U h q p
    unfold tRun
    split
    · exact ih _ _ (PI_step h) (QV_step h h0 q) (PR_step h h0.1 q p)
    · exact p
end PRT
