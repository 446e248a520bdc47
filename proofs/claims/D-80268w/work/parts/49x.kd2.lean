/-! PURE: kinds lie under elder kinds, 2 *-/
section KD2
variable {w : Int} {S U V : tSt}
theorem tFail52 (h : SI S) : tFail S 52 0 ≠ -1 := by
  have := h.2.1
  unfold tFail
  simp only [up_eq, true_and, false_and, and_true, and_false, and_self, if_true, if_false, eq_self, Nat.reduceEqDiff, reduceIte]
  split <;> omega
theorem tName54 (h : tIsN S = true) : tName S 54 0 = S 49 0 := by
  unfold tName
  rw [if_pos h, tAdv_o 54 (by decide) (by decide) (by decide) (by decide)]
  simp only [up_eq, true_and, false_and, and_true, and_false, and_self, if_true, if_false, eq_self, Nat.reduceEqDiff, reduceIte]
theorem PK_kind (h : SI S) (ht : TK S) (p : PK w S U) (e : (tKind w S U).1 52 0 = -1) (hs : S 49 0 ≤ (tKind w S U).1 49 0) : PK w (tKind w S U).1 (tKind w S U).2 := by
  have k1 := Tks_adv h ht
  have k2 := Tks_name k1.1 k1.2.1
  have k3 := Tks_adv k2.1 k2.2.1
  have k4 := Tks_name k3.1 k3.2.1
  have k5 := Tks_adv k4.1 k4.2.1
  unfold tKind at e hs ⊢
  by_cases q1 : U 3 w = 16
  · rw [if_pos q1] at e hs ⊢
    exact PK_E3 p E3.rf hs
  · rw [if_neg q1] at e hs ⊢
    by_cases q2 : tIsN (tAdv S) = true
    · rw [if_pos q2] at e hs ⊢
      unfold tKind2 at e hs ⊢
      by_cases q3 : tName (tAdv S) 50 0 = wBelow
      · rw [if_pos q3] at e hs ⊢
        by_cases q4 : tIsN (tAdv (tName (tAdv S))) = true
        · rw [if_pos q4] at e hs ⊢
          have t54 := tName54 q4
          unfold tKind3 at e hs ⊢
          generalize tName (tAdv (tName (tAdv S))) = T at *
          by_cases q5 : T 51 0 = 59
          · rw [if_pos q5] at e hs ⊢
            have l1 := k1.2.2.1
            have l2 := k2.2.2.1
            have l3 := k3.2.2.1
            have l4 := k4.2.2.1
            have l5 := k5.2.2.1
            obtain ⟨p1, p2, p3⟩ := p
            unfold PK
            simp only [up_eq, true_and, false_and, and_true, and_false, and_self, if_true, if_false, eq_self, Nat.reduceEqDiff, reduceIte]
            refine ⟨by omega, fun k a b => ?_, fun k q a b c => ?_⟩
            · by_cases z : k = U 3 w
              · subst z
                rw [if_pos rfl]
                omega
              · rw [if_neg (by omega)]
                have := p2 k a (by omega)
                omega
            · by_cases z : k = U 3 w
              · have y : q = U 3 w := by omega
                rw [if_pos (by omega), if_pos (by omega)]
                omega
              · rw [if_neg (by omega)]
                by_cases y : q = U 3 w
                · rw [if_pos (by omega)]
                  have := p2 k a (by omega)
                  omega
                · rw [if_neg (by omega)]
                  exact p3 k q a b (by omega)
          · rw [if_neg q5] at e
            exact absurd e (tFail52 k4.1)
        · rw [if_neg q4] at e
          exact absurd e (tFail52 k3.1)
      · rw [if_neg q3] at e
        exact absurd e (tFail52 k2.1)
    · rw [if_neg q2] at e
      exact absurd e (tFail52 k1.1)
theorem PK_step (h : PI w S U) (hm : tMore S = true) (p : PK w S U) (e : (tStep w S U).1 52 0 = -1) : PK w (tStep w S U).1 (tStep w S U).2 := by
  have hs : S 49 0 ≤ (tStep w S U).1 49 0 := by
    rcases Prg_step h hm with z | z
    · exact absurd e z
    · omega
  unfold tStep at e hs ⊢
  by_cases q1 : S 55 0 = 0
  · rw [if_pos q1] at e hs ⊢
    by_cases q2 : S 50 0 = wKind
    · rw [if_pos q2] at e hs ⊢
      exact PK_kind h.1 h.2.1 p e hs
    · rw [if_neg q2] at e hs ⊢
      by_cases q3 : S 50 0 = wWay
      · rw [if_pos q3] at e hs ⊢
        exact PK_E3 p (E3_way E3.rf) hs
      · rw [if_neg q3] at e hs ⊢
        exact PK_E3 p E3.rf hs
  · rw [if_neg q1] at e hs ⊢
    by_cases q2 : S 51 0 = 125
    · rw [if_pos q2] at e hs ⊢
      exact PK_E3 p (E3_close E3.rf) hs
    · rw [if_neg q2] at e hs ⊢
      exact PK_E3 p (E3_stmt E3.rf) hs
theorem PK_run : ∀ (d : Nat) (S U : tSt), PI w S U → PK w S U → (tRun w d S U).1 52 0 = -1 → PK w (tRun w d S U).1 (tRun w d S U).2 := by
  intro d
  induction d with
  | zero => intro S U _ p _; exact p
  | succ d ih =>
    intro S U h p e
    unfold tRun at e ⊢
    by_cases q : tMore S = true
    · rw [if_pos q] at e ⊢
      by_cases z : (tStep w S U).1 52 0 = -1
      · exact ih _ _ (PI_step h) (PK_step h q p z) e
      · have y : tMore (tStep w S U).1 = false := by unfold tMore; simp only [z, decide_false, Bool.false_and]
        rw [tRun_stay y] at e
        exact absurd e z
    · rw [if_neg q] at e ⊢
      exact p
end KD2
