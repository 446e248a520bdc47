/-! PURE: places, a method's line *-/
section PLO
variable {w x : Int} {S S0 U0 U : tSt}
theorem fail_no (si : SI S) (s52 : S 52 0 = -1) (e : tFail S 52 0 = -1) : False := by
  rw [tFail_52 s52] at e
  have := si.2.1
  omega
theorem PL_way3 (h : PL w S0 U0) (m : PM w x S0 U0 U) (si : SI S) (tk : TK S) (s52 : S 52 0 = -1) (h9 : S 49 0 ≤ S 47 0) (le : S0 49 0 ≤ S 49 0) (b15 : ∀ k, 0 ≤ U0 15 k ∧ U0 15 k ≤ 4) (e : (tWay3 w x S U).1 52 0 = -1) : PL w (tWay3 w x S U).1 (tWay3 w x S U).2 := by
  have ux : U 15 x = 0 := by rw [m.2.2.2 x, if_pos rfl]
  unfold tWay3 at e ⊢
  by_cases q : S 50 0 = wThrows
  · rw [if_pos q, tThr_ls (x := x) 5 0 S U ux] at e ⊢
    obtain ⟨i1, i2, i3, i4, i5, i6, i7, i8, i9⟩ := tLs_st (sp := 44) 5 0 S rfl (by decide) si tk s52
    obtain ⟨l1, l2⟩ := tLs_pl (sp := 44) 5 0 S si tk h9
    by_cases ok : (tLs 44 0 5 S).1 = true
    · rw [if_pos ok] at e ⊢
      dsimp only at e ⊢
      have t9 : (tLs 44 0 5 S).2.1 49 0 ≤ (tLs 44 0 5 S).2.1 47 0 ∨ (tLs 44 0 5 S).2.1 51 0 = -1 := by
        by_cases z : (tLs 44 0 5 S).2.1 51 0 = -1
        · exact Or.inr z
        · exact Or.inl (by have := i4.2.2.1 z; omega)
      rcases t9 with t9 | t9
      · exact PL_way4 h m i3 (i1 ok) t9 (by omega) (by omega) b15 (fun q hq => (l2 q hq).2) e
      · have e' := e
        unfold tWay4 at e'
        rw [if_neg (by omega), tOpn_f (fun p => by have := (tIsO_iff.mp p).1; omega)] at e'
        exact (fail_no i3 (i1 ok) e').elim
    · rw [if_neg ok] at e
      exact absurd e (i2 ok)
  · rw [if_neg q] at e ⊢
    exact PL_way4 (N := []) h m si s52 h9 le (by decide) b15 (fun q hq => by cases hq) e
theorem PL_way2 (h : PL w S0 U0) (m : PM w x S0 U0 U) (si : SI S) (tk : TK S) (s52 : S 52 0 = -1) (h9 : S 49 0 ≤ S 47 0) (le : S0 49 0 ≤ S 49 0) (b15 : ∀ k, 0 ≤ U0 15 k ∧ U0 15 k ≤ 4) (e : (tWay2 w x S U).1 52 0 = -1) : PL w (tWay2 w x S U).1 (tWay2 w x S U).2 := by
  have a47 := tAdv_47 si
  unfold tWay2 at e ⊢
  by_cases q : S 50 0 = wFree
  · rw [if_pos q] at e ⊢
    exact PL_way3 h (PM_up m rfl) (SI_adv si) (TK_adv si.1) (by rw [tAdv_52]; exact s52) a47.2.2 (by omega) b15 e
  · rw [if_neg q] at e ⊢
    exact PL_way3 h (PM_up m rfl) si tk s52 h9 le b15 e
theorem PL_way1 (h : PL w S0 U0) (m : PM w x S0 U0 U) (si : SI S) (tk : TK S) (s52 : S 52 0 = -1) (h9 : S 49 0 ≤ S 47 0) (le : S0 49 0 ≤ S 49 0) (b15 : ∀ k, 0 ≤ U0 15 k ∧ U0 15 k ≤ 4) (e : (tWay1 w x S U).1 52 0 = -1) : PL w (tWay1 w x S U).1 (tWay1 w x S U).2 := by
  have a47 := tAdv_47 si
  have s521 : tAdv S 52 0 = -1 := by rw [tAdv_52]; exact s52
  unfold tWay1 at e ⊢
  by_cases q : S 50 0 = wOver
  · rw [if_pos q] at e ⊢
    by_cases n : tIsN (tAdv S) = true
    · rw [if_pos n] at e ⊢
      obtain ⟨g53, g54, g47, g49, g50, g51⟩ := tName_g n
      obtain ⟨si2, tk2, _, _, _, m52, m47⟩ := nm_name (SI_adv si) (TK_adv si.1) n
      have b47 := tAdv_47 (SI_adv si)
      exact PL_way2 h (PM_up (PM_up m rfl) rfl) si2 tk2 (by rw [m52]; exact s521) (by omega) (by omega) b15 e
    · rw [if_neg n] at e
      exact (fail_no (SI_adv si) s521 e).elim
  · rw [if_neg q] at e ⊢
    exact PL_way2 h m si tk s52 h9 le b15 e
theorem PL_way (h : PL w S U) (si : SI S) (s52 : S 52 0 = -1) (h9 : S 49 0 ≤ S 47 0) (b15 : ∀ k, 0 ≤ U 15 k ∧ U 15 k ≤ 4) (e : (tWay w S U).1 52 0 = -1) : PL w (tWay w S U).1 (tWay w S U).2 := by
  have a47 := tAdv_47 si
  have s521 : tAdv S 52 0 = -1 := by rw [tAdv_52]; exact s52
  unfold tWay at e ⊢
  by_cases q : U 9 w = 12
  · rw [if_pos q] at e
    exact (fail_no si s52 e).elim
  · rw [if_neg q] at e ⊢
    by_cases n : tIsN (tAdv S) = true
    · rw [if_pos n] at e ⊢
      obtain ⟨g53, g54, g47, g49, g50, g51⟩ := tName_g n
      obtain ⟨si2, tk2, _, _, _, m52, m47⟩ := nm_name (SI_adv si) (TK_adv si.1) n
      have b47 := tAdv_47 (SI_adv si)
      refine PL_way1 (S0 := S) h ?_ si2 tk2 (by rw [m52]; exact s521) (by omega) (by omega) b15 e
      refine PM_up ⟨rfl, ?_, fun f hf h15 => ?_, fun j => ?_⟩ rfl
      · rw [up_n (by decide), up_n (by decide), up_n (by decide), up_n (by decide)]
      · have hz : f ≠ 10 ∧ f ≠ 11 ∧ f ≠ 12 := ⟨fun z => by rw [z] at hf; exact absurd hf (by decide), fun z => by rw [z] at hf; exact absurd hf (by decide), fun z => by rw [z] at hf; exact absurd hf (by decide)⟩
        rw [up_n h15, up_n hz.2.2, up_n hz.2.1, up_n hz.1]
      · rw [up_eq]
        by_cases z : j = w * 12 + U 9 w
        · rw [if_pos ⟨rfl, z⟩, if_pos z]
        · rw [if_neg (fun y => z y.2), if_neg z, up_n (by decide), up_n (by decide), up_n (by decide)]
    · rw [if_neg n] at e
      exact (fail_no (SI_adv si) s521 e).elim
end PLO
