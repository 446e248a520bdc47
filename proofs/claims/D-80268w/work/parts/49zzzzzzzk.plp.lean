/-! PURE: places, a step *-/
section PLP
variable {w : Int} {S U : tSt}
theorem TK_9 (si : SI S) (tk : TK S) (h : S 51 0 ≠ -1) : S 49 0 ≤ S 47 0 := by have := tk.2.2.1 h; omega
theorem PL_step (hP : PI w S U) (hm : tMore S = true) (qv : QV U) (h : PL w S U) (s52 : S 52 0 = -1) (h9 : S 49 0 ≤ S 47 0) (e : (tStep w S U).1 52 0 = -1) : PL w (tStep w S U).1 (tStep w S U).2 := by
  have si := hP.1
  have tk := hP.2.1
  have b15 := fun k => QV_b qv (f := 15) (c := 4) rfl rfl rfl k
  have b30 := fun k => QV_b qv (f := 30) (c := 4) rfl rfl rfl k
  have b33 := fun k => QV_b qv (f := 33) (c := 4) rfl rfl rfl k
  have b37 := fun k => QV_b qv (f := 37) (c := 4) rfl rfl rfl k
  have hs : S 49 0 ≤ (tStep w S U).1 49 0 := by
    rcases Prg_step hP hm with z | z
    · exact absurd e z
    · omega
  unfold tStep at e hs ⊢
  by_cases q1 : S 55 0 = 0
  · rw [if_pos q1] at e hs ⊢
    by_cases q2 : S 50 0 = wKind
    · rw [if_pos q2] at e hs ⊢
      exact PL_kind h hs
    · rw [if_neg q2] at e hs ⊢
      by_cases q3 : S 50 0 = wWay
      · rw [if_pos q3] at e hs ⊢
        exact PL_way h si s52 h9 b15 e
      · rw [if_neg q3] at e
        exact (fail_no si s52 e).elim
  · rw [if_neg q1] at e hs ⊢
    by_cases q2 : S 51 0 = 125
    · rw [if_pos q2] at e hs ⊢
      unfold tClose at e ⊢
      have si' : SI (up S 55 0 (S 55 0 - 1)) := SI_dec si (by have := si.2.2.2.2.2.2.2; omega)
      have a47 := tAdv_47 si'
      have x47 : up S 55 0 (S 55 0 - 1) 47 0 = S 47 0 := by rw [up_n (by decide)]
      exact PL_shut (PL_t h (by omega)) (SI_adv si') (TK_adv si'.1) (by rw [tAdv_52, up_n (by decide)]; exact s52) a47.2.2 b30 b33 b37 e
    · rw [if_neg q2] at e hs ⊢
      exact PL_stmt h si s52 h9 b30 e
/-- at the beginning -/
theorem PL_0 (h19 : U 19 w ≤ 0) (h9 : U 9 w ≤ 0) : PL w S U := ⟨fun s hs => by have := hs.1; have := hs.2; omega, fun m m0 m1 => by omega⟩
end PLP
