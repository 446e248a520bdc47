/-! PURE: places, a new method *-/
section PLM
variable {w x : Int} {S S' U V : tSt} {N : List (Int × Int)}
theorem PL_met (h : PL w S U) (hx : x = w * 12 + U 9 w) (le : S 49 0 ≤ S' 49 0) (v9 : V 9 w = U 9 w + 1) (e : ∀ f, plF f = true → f ≠ 9 → f ≠ 15 → f ≠ 17 → V f = U f) (v15 : ∀ j, V 15 j = if j = x then (N.length : Int) else U 15 j) (v17 : ∀ j, V 17 j = if 4 * x ≤ j ∧ j < 4 * x + N.length then (N.getD (j - 4 * x).toNat (0, 0)).2 else U 17 j) (hNl : N.length ≤ 4) (b15 : ∀ k, 0 ≤ U 15 k ∧ U 15 k ≤ 4) (hq : ∀ q, q ∈ N → q.2 ≤ S' 49 0) : PL w S' V := by
  obtain ⟨h1, h2⟩ := h
  unfold PL As
  rw [e 19 rfl (by decide) (by decide) (by decide), e 20 rfl (by decide) (by decide) (by decide), e 26 rfl (by decide) (by decide) (by decide), e 30 rfl (by decide) (by decide) (by decide), e 32 rfl (by decide) (by decide) (by decide), e 33 rfl (by decide) (by decide) (by decide), e 37 rfl (by decide) (by decide) (by decide), e 39 rfl (by decide) (by decide) (by decide), v9]
  refine ⟨fun t ht => ?_, fun m m0 m1 i i0 i1 => ?_⟩
  · obtain ⟨a1, a2, a3⟩ := h1 t ht
    exact ⟨fun z => Int.le_trans (a1 z) le, fun i i0 i1 => Int.le_trans (a2 i i0 i1) le, fun k k0 k1 i i0 i1 => Int.le_trans (a3 k k0 k1 i i0 i1) le⟩
  · rw [v15] at i1
    rw [v17]
    by_cases q : m = U 9 w
    · rw [if_pos (by omega)] at i1
      rw [if_pos (by omega)]
      exact hq _ (getD_mem (by omega))
    · rw [if_neg (by omega)] at i1
      have := b15 (w * 12 + m)
      rw [if_neg (by omega)]
      exact Int.le_trans (h2 m m0 (by omega) i i0 i1) le
end PLM
