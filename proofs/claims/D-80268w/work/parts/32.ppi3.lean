/-! PURE: the rows while a text is read, 2: statements, blocks' ends, the loop *-/
section PPI3
variable {w : Int} {S S' U U' : tSt}
theorem PI_enter {b : Int} (h : PI w S U) (hn : U 19 w < 120) (hb : 1024 * w ≤ b ∧ b < 1024 * w + U 40 w) : PI w S (tEnter w (w * 120 + U 19 w) b S U) := by
  obtain ⟨h1, h2, h3, u1, u2, u3, u4, u5, u6, u7⟩ := h
  refine ⟨h1, h2, h3, ?_⟩
  have ub := u6 b hb.1 hb.2
  unfold tEnter tLink PU
  split
  all_goals
    simp only [up_eq, true_and, false_and, and_true, and_false, and_self, if_true, if_false, eq_self, Nat.reduceEqDiff, reduceIte]
    refine ⟨u1, u2, by omega, ⟨u4.1, by omega⟩, u5, ?_, ?_⟩
    · intro c c1 c2
      have := u6 c c1 c2
      by_cases e : c = b
      · subst e
        simp only [if_true]
        exact ⟨Or.inr (by omega), this.2.1, fun q => by have := this.2.2 q; omega⟩
      · simp only [e, if_false]
        exact ⟨by rcases this.1 with z | z; exact Or.inl z; exact Or.inr (by omega), this.2.1, fun q => by have := this.2.2 q; omega⟩
    · intro s s1 s2
      by_cases e : s = w * 120 + U 19 w
      · simp only [e, if_true]
        omega
      · simp only [e, if_false]
        exact u7 s s1 (by omega)
theorem PI_nam {s u : Int} : ∀ (d : Nat) (S U : tSt), PI w S U → (120 * w ≤ s ∧ s < 120 * w + U 19 w) → PI w (tNam s u d S U).2.1 (tNam s u d S U).2.2
  | 0, S, U, h, _ => h
  | d + 1, S, U, h, hs => by
    have step : U 30 s ≠ 4 → PI w (tName (tAdv S)) (up (up (up U 31 (4 * s + U 30 s) (tName (tAdv S) 53 0)) 32 (4 * s + U 30 s) (tName (tAdv S) 54 0)) 30 s (U 30 s + 1)) := by
      intro q
      obtain ⟨h1, h2, h3, u1, u2, u3, u4, u5, u6, u7⟩ := PI_name (PI_adv h)
      refine ⟨h1, h2, h3, ?_⟩
      unfold PU
      simp only [up_eq, true_and, false_and, and_true, and_false, and_self, if_true, if_false, eq_self, Nat.reduceEqDiff, reduceIte]
      refine ⟨u1, u2, u3, u4, u5, u6, fun s' z1 z2 => ?_⟩
      have := u7 s' z1 z2
      by_cases e : s' = s
      · subst e
        simp only [if_true]
        omega
      · simp only [e, if_false]
        exact this
    unfold tNam
    split
    · exact PI_fail (PI_adv h)
    · rename_i q0
      split
      · split
        · exact PI_nam d _ _ (step q0) (by simp only [up_eq, true_and, false_and, and_true, and_false, and_self, if_true, if_false, eq_self, Nat.reduceEqDiff, reduceIte]; exact hs)
        · exact PI_take (step q0)
      · exact PI_fail (PI_adv h)
theorem PI_cau {c : Int} (h : PI w S U) (d : Nat) : PI w (tCau c d S U).2.1 (tCau c d S U).2.2 := by
  have k := Tks_cau (c := c) d S U h.1 h.2.1
  have e : ∀ g, g ≠ 37 → g ≠ 38 → g ≠ 39 → (tCau c d S U).2.2 g = U g := fun g q1 q2 q3 => tCau_u g q1 q2 q3 d S U
  exact PI_u (PI_tks h k) (e _ (by decide) (by decide) (by decide)) (e _ (by decide) (by decide) (by decide)) (e _ (by decide) (by decide) (by decide)) (e _ (by decide) (by decide) (by decide)) (e _ (by decide) (by decide) (by decide)) (e _ (by decide) (by decide) (by decide)) (e _ (by decide) (by decide) (by decide)) (e _ (by decide) (by decide) (by decide)) (e _ (by decide) (by decide) (by decide))
/-- room for one more block -/
def PS (w : Int) (S U : tSt) : Prop := 5 * (U 40 w + 1 - U 9 w - U 19 w) ≤ S 49 0 + 1
theorem PI_stmt2 {s x : Int} (h : PI w S U) (hp : PS w S U) (hs : 120 * w ≤ s ∧ s < 120 * w + U 19 w) : PI w (tStmt2 w s x S U).1 (tStmt2 w s x S U).2 := by
  have pu : ∀ (f : Nat) (j y : Int) (S : tSt), pF f = true → PS w S U → PS w S (up U f j y) := by
    intro f j y S hf hp
    unfold pF at hf
    simp only [Bool.and_eq_true, bne_iff_ne, ne_eq] at hf
    unfold PS
    rw [up_n (fun e => hf.1.1.1.1.1.2 e.symm), up_n (fun e => hf.1.1.1.1.1.1.1.2 e.symm), up_n (fun e => hf.1.1.1.1.1.1.2 e.symm)]
    exact hp
  have hp2 : PS w (tName S) U := by
    have := (Tks_name h.1 h.2.1).2.2.1
    unfold PS at *
    omega
  unfold tStmt2
  split
  · exact PI_up (PI_take h) rfl
  · split
    · split
      · unfold tStmt3
        split
        · refine PI_opn (PI_up (PI_up (PI_up (PI_name h) rfl) rfl) rfl) rfl ?_ (by omega) (fun _ => by simp only [up_eq, true_and, false_and, and_true, and_false, and_self, if_true, if_false, eq_self, Nat.reduceEqDiff, reduceIte]; exact hs)
          unfold PS at hp2
          simp only [up_eq, true_and, false_and, and_true, and_false, and_self, if_true, if_false, eq_self, Nat.reduceEqDiff, reduceIte]
          exact hp2
        · exact PI_up (PI_up (PI_up (PI_take (PI_name h)) rfl) rfl) rfl
      · exact PI_up (PI_fail h) rfl
    · split
      · refine PI_opn (PI_up h rfl) rfl ?_ (by split <;> omega) (fun _ => by simp only [up_eq, true_and, false_and, and_true, and_false, and_self, if_true, if_false, eq_self, Nat.reduceEqDiff, reduceIte]; exact hs)
        unfold PS at hp
        simp only [up_eq, true_and, false_and, and_true, and_false, and_self, if_true, if_false, eq_self, Nat.reduceEqDiff, reduceIte]
        exact hp
      · split
        · refine PI_opn (PI_up h rfl) rfl ?_ (by omega) (fun _ => by simp only [up_eq, true_and, false_and, and_true, and_false, and_self, if_true, if_false, eq_self, Nat.reduceEqDiff, reduceIte]; exact hs)
          unfold PS at hp
          simp only [up_eq, true_and, false_and, and_true, and_false, and_self, if_true, if_false, eq_self, Nat.reduceEqDiff, reduceIte]
          exact hp
        · split
          · split
            · have n := PI_nam (s := s) (u := 41) 5 S (up U 20 s 9) (PI_up h rfl) (by simp only [up_eq, true_and, false_and, and_true, and_false, and_self, if_true, if_false, eq_self, Nat.reduceEqDiff, reduceIte]; exact hs)
              have k := (Tks_nam (s := s) (u := 41) 5 S (up U 20 s 9) h.1 h.2.1).2.2.1
              have e : ∀ g, g ≠ 30 → g ≠ 31 → g ≠ 32 → g ≠ 20 → (tNam s 41 5 S (up U 20 s 9)).2.2 g = U g := fun g q1 q2 q3 q4 => by rw [tNam_u g q1 q2 q3, up_n q4]
              refine PI_opn n rfl ?_ (by omega) (fun _ => by rw [e 19 (by decide) (by decide) (by decide) (by decide)]; exact hs)
              rw [e 40 (by decide) (by decide) (by decide) (by decide), e 9 (by decide) (by decide) (by decide) (by decide), e 19 (by decide) (by decide) (by decide) (by decide)]
              unfold PS at hp
              omega
            · exact PI_nam (s := s) (u := 41) 5 S (up U 20 s 9) (PI_up h rfl) (by simp only [up_eq, true_and, false_and, and_true, and_false, and_self, if_true, if_false, eq_self, Nat.reduceEqDiff, reduceIte]; exact hs)
          · refine PI_opn (PI_up h rfl) rfl ?_ (by omega) (fun _ => by simp only [up_eq, true_and, false_and, and_true, and_false, and_self, if_true, if_false, eq_self, Nat.reduceEqDiff, reduceIte]; exact hs)
            unfold PS at hp
            simp only [up_eq, true_and, false_and, and_true, and_false, and_self, if_true, if_false, eq_self, Nat.reduceEqDiff, reduceIte]
            exact hp
theorem PI_stmt (h : PI w S U) (hd : 1 ≤ S 55 0) : PI w (tStmt w S U).1 (tStmt w S U).2 := by
  unfold tStmt
  split
  · rename_i q
    obtain ⟨h1, h2, h3, u1, u2, u3, u4, u5, u6, u7⟩ := id h
    have hb := u5 (S 55 0 - 1) (by omega) (by omega)
    have he := PI_enter (b := S 56 (S 55 0 - 1)) h (by omega) hb
    have e19 : tEnter w (w * 120 + U 19 w) (S 56 (S 55 0 - 1)) S U 19 w = U 19 w + 1 := by
      unfold tEnter tLink
      split <;> simp only [up_eq, true_and, false_and, and_true, and_false, and_self, if_true, if_false, eq_self, Nat.reduceEqDiff, reduceIte]
    have e9 : tEnter w (w * 120 + U 19 w) (S 56 (S 55 0 - 1)) S U 9 = U 9 := tEnter_o 9 (by decide) (by decide) (by decide) (by decide) (by decide) (by decide) (by decide) (by decide) (by decide) (by decide) (by decide) (by decide) (by decide)
    have e40 : tEnter w (w * 120 + U 19 w) (S 56 (S 55 0 - 1)) S U 40 = U 40 := tEnter_o 40 (by decide) (by decide) (by decide) (by decide) (by decide) (by decide) (by decide) (by decide) (by decide) (by decide) (by decide) (by decide) (by decide)
    generalize tEnter w (w * 120 + U 19 w) (S 56 (S 55 0 - 1)) S U = U1 at *
    have hs : 120 * w ≤ w * 120 + U 19 w ∧ w * 120 + U 19 w < 120 * w + U1 19 w := by omega
    split
    · refine PI_opn (PI_up he rfl) rfl ?_ (by omega) (fun _ => by simp only [up_eq, true_and, false_and, and_true, and_false, and_self, if_true, if_false, eq_self, Nat.reduceEqDiff, reduceIte]; exact hs)
      simp only [up_eq, true_and, false_and, and_true, and_false, and_self, if_true, if_false, eq_self, Nat.reduceEqDiff, reduceIte]
      rw [e19, e9, e40]
      omega
    · refine PI_stmt2 (PI_adv he) ?_ hs
      have := (Tks_adv h.1 h.2.1).2.2.1
      unfold PS
      rw [e19, e9, e40]
      omega
  · exact PI_fail h
end PPI3
