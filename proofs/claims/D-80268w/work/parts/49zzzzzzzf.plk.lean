/-! PURE: places, behind the blocks of a try *-/
section PLK
variable {w s : Int} {S U : tSt} {bo : Bool}
theorem PL_behind (h : PL w S U) (si : SI S) (tk : TK S) (s52 : S 52 0 = -1) (h9 : S 49 0 ≤ S 47 0) (b33 : ∀ k, 0 ≤ U 33 k ∧ U 33 k ≤ 4) (b37 : ∀ k, 0 ≤ U 37 k ∧ U 37 k ≤ 4) (e : (tBehind w s bo S U).1 52 0 = -1) : PL w (tBehind w s bo S U).1 (tBehind w s bo S U).2 := by
  have a47 := tAdv_47 si
  unfold tBehind at e ⊢
  by_cases q1 : S 50 0 = wCatch
  · rw [if_pos q1] at e ⊢
    exact PL_catch h si tk s52 h9 b33 b37 e
  · rw [if_neg q1] at e ⊢
    by_cases q2 : S 50 0 = wFinally
    · rw [if_pos q2] at e ⊢
      have := opn_49 (SI_adv si) a47.2.2 e (by rw [tAdv_52]; exact s52)
      exact PL_ou (PL_t h (by omega)) rfl
    · rw [if_neg q2] at e ⊢
      by_cases q3 : bo = true ∧ U 30 s = 0
      · rw [if_pos q3] at e
        have e' : tFail S 52 0 = -1 := e
        rw [tFail_52 s52] at e'
        have := si.2.1
        omega
      · rw [if_neg q3]
        exact h
end PLK
