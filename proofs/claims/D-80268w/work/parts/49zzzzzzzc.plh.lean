/-! PURE: places, words of statements *-/
section PLH
variable {w s x what own num i b : Int} {S S1 X U V : tSt} {f : Nat}
theorem oS_49 (si : SI X) (h : tIsO X = true) : X 47 0 ≤ oS X b 49 0 := by
  have := (tAdv_47 (SI_open (b := b) si (tIsO_iff.mp h).2)).2.1
  have e : up (up X 56 (X 55 0) b) 55 0 (X 55 0 + 1) 47 0 = X 47 0 := by rw [up_n (by decide), up_n (by decide)]
  unfold oS
  omega
theorem opn_49 (si : SI X) (h9 : X 49 0 ≤ X 47 0) (e : (tOpn w what own num f i X V).1 52 0 = -1) (s52 : X 52 0 = -1) : X 47 0 ≤ (tOpn w what own num f i X V).1 49 0 := by
  by_cases o : tIsO X = true
  · rw [tOpn_e o]
    exact oS_49 si o
  · rw [tOpn_f o] at e
    rw [tFail_52 s52] at e
    have := si.2.1
    omega
theorem take_49 {y : Int} (si : SI X) (e : (tTake X y) 52 0 = -1) (s52 : X 52 0 = -1) : X 47 0 ≤ tTake X y 49 0 := by
  unfold tTake at e ⊢
  by_cases q : X 51 0 = y
  · rw [if_pos q]
    exact (tAdv_47 si).2.1
  · rw [if_neg q, tFail_52 s52] at e
    have := si.2.1
    omega
theorem PL_stmt2 (h : PL w S U) (hs : s = w * 120 + U 19 w) (si1 : SI S1) (tk1 : TK S1) (s52 : S1 52 0 = -1) (h9 : S1 49 0 ≤ S1 47 0) (le : S 49 0 ≤ S1 49 0) (h30 : ∀ k, 0 ≤ U 30 k ∧ U 30 k ≤ 4) (e : (tStmt2 w s x S1 (tEnter w s b S U)).1 52 0 = -1) : PL w (tStmt2 w s x S1 (tEnter w s b S U)).1 (tStmt2 w s x S1 (tEnter w s b S U)).2 := by
  unfold tStmt2 at e ⊢
  by_cases q1 : x = wDo ∨ x = wBreak ∨ x = wReturn
  · rw [if_pos q1] at e ⊢
    have := take_49 si1 e s52
    refine PL_sk h hs ?_ (by show _ ≤ tTake S1 59 49 0; omega)
    split
    · decide
    · split <;> decide
  · rw [if_neg q1] at e ⊢
    by_cases q2 : x = wThrow ∨ x = wSet ∨ x = wCall
    · rw [if_pos q2] at e ⊢
      by_cases n : tIsN S1 = true
      · rw [if_pos n] at e ⊢
        obtain ⟨g53, g54, g47, g49, g50, g51⟩ := tName_g n
        obtain ⟨si2, tk2, _, _, _, m52, m47⟩ := nm_name si1 tk1 n
        have b47 := tAdv_47 si1
        have s522 : tName S1 52 0 = -1 := by rw [m52]; exact s52
        unfold tStmt3 at e ⊢
        by_cases q3 : x = wCall ∧ tName S1 51 0 = 123
        · rw [if_pos q3] at e ⊢
          have := opn_49 si2 (by omega) e s522
          exact PL_ou (PL_s3 h hs (by omega) (by omega)) rfl
        · rw [if_neg q3] at e ⊢
          have := take_49 si2 e s522
          exact PL_s3 h hs (by show _ ≤ tTake (tName S1) 59 49 0; omega) (by show _ ≤ tTake (tName S1) 59 49 0; omega)
      · rw [if_neg n] at e
        have e' : tFail S1 52 0 = -1 := e
        rw [tFail_52 s52] at e'
        have := si1.2.1
        omega
    · rw [if_neg q2] at e ⊢
      by_cases q3 : x = wIf ∨ x = wRun
      · rw [if_pos q3] at e ⊢
        have := opn_49 si1 h9 e s52
        exact PL_ou (PL_sk h hs (by split <;> decide) (by omega)) rfl
      · rw [if_neg q3] at e ⊢
        by_cases q4 : x = wWhile ∨ x = wLoop
        · rw [if_pos q4] at e ⊢
          have := opn_49 si1 h9 e s52
          exact PL_ou (PL_sk h hs (by split <;> decide) (by omega)) rfl
        · rw [if_neg q4] at e ⊢
          by_cases q5 : S1 51 0 = 40
          · have E30 : up (tEnter w s b S U) 20 s 9 30 s = 0 := by rw [up_n (by decide)]; exact tEnter_30
            have T : tTry w s S1 (up (tEnter w s b S U) 20 s 9) = _ := tTry_n E30 q5
            unfold tTry at T
            rw [T] at e ⊢
            obtain ⟨i1, i2, i3, i4, i5, i6, i7, i8, i9⟩ := tLs_st (sp := 44) 5 0 S1 rfl (by decide) si1 tk1 s52
            obtain ⟨l1, l2⟩ := tLs_pl (sp := 44) 5 0 S1 si1 tk1 h9
            by_cases ok : (tLs 44 0 5 S1).1 = true
            · rw [if_pos ok] at e ⊢
              by_cases y : (tLs 44 0 5 S1).2.1 51 0 = 41
              · rw [if_pos y] at e ⊢
                have a47 := tAdv_47 i3
                have k9 := i4.2.2.1
                have := opn_49 (SI_adv i3) a47.2.2 e (by rw [tAdv_52]; exact i1 ok)
                have tk9 : (tLs 44 0 5 S1).2.1 49 0 ≤ (tLs 44 0 5 S1).2.1 47 0 := by have := k9 (by omega); omega
                refine PL_ou (PL_nW (PL_sk h hs (by decide) (by omega)) E30 (by omega) (fun k => ?_) (fun q hq => ?_)) rfl
                · by_cases z : k = s
                  · rw [z, E30]; omega
                  · rw [up_n (by decide), tEnter_ne (by decide) z]
                    exact h30 k
                · have := l2 q hq
                  omega
              · rw [if_neg y] at e
                have e' : tTake (tLs 44 0 5 S1).2.1 41 52 0 = -1 := e
                unfold tTake at e'
                rw [if_neg y, tFail_52 (i1 ok)] at e'
                have := i3.2.1
                omega
            · rw [if_neg ok] at e
              exact absurd e (i2 ok)
          · rw [if_neg q5] at e ⊢
            have := opn_49 si1 h9 e s52
            exact PL_ou (PL_sk h hs (by decide) (by omega)) rfl
end PLH
