/-! PURE: places, blocks and kinds *-/
section PLG
variable {w what own num i : Int} {S S' X U V : tSt} {f : Nat}
theorem plF_lt {g : Nat} (h : plF g = true) : g < 40 ∧ (g < 3 ∨ 8 < g) := by
  unfold plF at h
  simp only [Bool.or_eq_true, beq_iff_eq] at h
  omega
theorem PL_ou (h : PL w S' V) (hf : plF f = false) : PL w S' (tOpn w what own num f i X V).2 := by
  refine PL_E h (Int.le_refl _) (fun g hg => ?_)
  unfold tOpn
  show up (tOU w what own num X V) f i (tOR w X V) g = V g
  rw [up_n (fun z => by rw [z, hf] at hg; cases hg), tOU_o (Or.inl (plF_lt hg).1)]
theorem tKind_em {g : Nat} (h : g < 3 ∨ 8 < g) : (tKind w S U).2 g = U g := by
  unfold tKind
  split
  · rfl
  · split
    · unfold tKind2
      split
      · split
        · unfold tKind3
          split
          · show up (up (up (up (up (up U 4 _ _) 5 _ _) 7 _ _) 8 _ _) 6 _ _) 3 _ _ g = U g
            rw [up_n (by omega), up_n (by omega), up_n (by omega), up_n (by omega), up_n (by omega), up_n (by omega)]
          · show up (up (up (up (up U 4 _ _) 5 _ _) 7 _ _) 8 _ _) 6 _ _ g = U g
            rw [up_n (by omega), up_n (by omega), up_n (by omega), up_n (by omega), up_n (by omega)]
        · show up (up U 4 _ _) 5 _ _ g = U g
          rw [up_n (by omega), up_n (by omega)]
      · show up (up U 4 _ _) 5 _ _ g = U g
        rw [up_n (by omega), up_n (by omega)]
    · rfl
theorem PL_kind (h : PL w S U) (le : S 49 0 ≤ S' 49 0) : PL w S' (tKind w S U).2 := PL_E h le (fun _ hg => tKind_em (plF_lt hg).2)
end PLG
