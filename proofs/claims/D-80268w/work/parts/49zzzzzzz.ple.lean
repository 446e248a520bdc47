/-! PURE: places of names of a statement *-/
section PLE
variable {w s : Int} {S U : tSt} {N : List (Int × Int)}
theorem getD_mem {n : Nat} (h : n < N.length) : N.getD n (0, 0) ∈ N := by
  rw [List.getD_eq_getElem?_getD, List.getElem?_eq_getElem h]
  exact List.getElem_mem h
theorem PL_nW (h : PL w S U) (u30 : U 30 s = 0) (hNl : N.length ≤ 4) (h30 : ∀ k, 0 ≤ U 30 k ∧ U 30 k ≤ 4) (hq : ∀ q, q ∈ N → q.2 ≤ S 49 0) : PL w S (nW 30 31 32 s N U) := by
  obtain ⟨h1, h2⟩ := h
  have e : ∀ f, f ≠ 30 → f ≠ 31 → f ≠ 32 → nW 30 31 32 s N U f = U f := fun f a b c => nW_f a b c
  unfold PL As
  rw [e 9 (by decide) (by decide) (by decide), e 15 (by decide) (by decide) (by decide), e 17 (by decide) (by decide) (by decide), e 19 (by decide) (by decide) (by decide), e 20 (by decide) (by decide) (by decide), e 26 (by decide) (by decide) (by decide), e 33 (by decide) (by decide) (by decide), e 37 (by decide) (by decide) (by decide), e 39 (by decide) (by decide) (by decide)]
  refine ⟨fun t ht => ?_, h2⟩
  obtain ⟨a1, a2, a3⟩ := h1 t ht
  refine ⟨a1, fun i i0 i1 => ?_, a3⟩
  rw [nW_c (by decide) (by decide)] at i1
  have v := (nW_w (fc := 30) (fw := 31) (fp := 32) (x := s) (by decide) (by decide) (by decide) N U (4 * t + i)).2
  rw [v, u30]
  by_cases q : t = s
  · rw [if_pos q, u30] at i1
    rw [if_pos (by omega)]
    exact hq _ (getD_mem (by omega))
  · rw [if_neg q] at i1
    have := h30 t
    rw [if_neg (by omega)]
    exact a2 i i0 i1
end PLE
