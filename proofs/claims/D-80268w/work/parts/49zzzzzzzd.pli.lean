/-! PURE: places, a statement *-/
section PLI
variable {w : Int} {S U : tSt}
theorem PL_stmt (h : PL w S U) (si : SI S) (s52 : S 52 0 = -1) (h9 : S 49 0 ≤ S 47 0) (h30 : ∀ k, 0 ≤ U 30 k ∧ U 30 k ≤ 4) (e : (tStmt w S U).1 52 0 = -1) : PL w (tStmt w S U).1 (tStmt w S U).2 := by
  have a47 := tAdv_47 si
  unfold tStmt at e ⊢
  by_cases q : tBegins S = true ∧ U 19 w ≠ 120
  · rw [if_pos q] at e ⊢
    by_cases q2 : S 51 0 = 123
    · rw [if_pos q2] at e ⊢
      have := opn_49 si h9 e s52
      exact PL_ou (PL_sk h rfl (by decide) (by omega)) rfl
    · rw [if_neg q2] at e ⊢
      exact PL_stmt2 h rfl (SI_adv si) (TK_adv si.1) (by rw [tAdv_52]; exact s52) a47.2.2 (by omega) h30 e
  · rw [if_neg q] at e
    have e' : tFail S 52 0 = -1 := e
    rw [tFail_52 s52] at e'
    have := si.2.1
    omega
end PLI
