/-! PURE: places of names lie in the order of the text *-/
section PLC
variable {sp : Int}
theorem tLs_pl : ∀ (d n : Nat) (S : tSt), SI S → TK S → S 49 0 ≤ S 47 0 → S 49 0 ≤ (tLs sp n d S).2.1 49 0 ∧ ∀ q, q ∈ (tLs sp n d S).2.2 → S 49 0 ≤ q.2 ∧ q.2 ≤ (tLs sp n d S).2.1 49 0 := by
  intro d
  induction d with
  | zero => intro n S si tk h; exact ⟨Int.le_refl _, fun q hq => by cases hq⟩
  | succ d ih =>
    intro n S si tk h
    have si1 := SI_adv si
    have tk1 := TK_adv si.1
    have a47 := tAdv_47 si
    have f49 : tFail (tAdv S) 49 0 = tAdv S 49 0 := by rw [tFail_o 49 (by decide)]
    rw [tLs]
    by_cases h4 : n = 4
    · rw [if_pos h4]
      exact ⟨by show _ ≤ tFail (tAdv S) 49 0; omega, fun q hq => by cases hq⟩
    · rw [if_neg h4]
      by_cases nm : tIsN (tAdv S) = true
      · rw [if_pos nm]
        obtain ⟨g53, g54, g47, g49, g50, g51⟩ := tName_g nm
        obtain ⟨si2, tk2, _⟩ := nm_name si1 tk1 nm
        have b47 := tAdv_47 si1
        by_cases y : tName (tAdv S) 51 0 = sp
        · rw [if_pos y]
          obtain ⟨i1, i2⟩ := ih (n + 1) (tName (tAdv S)) si2 tk2 (by omega)
          refine ⟨by show _ ≤ (tLs sp (n + 1) d (tName (tAdv S))).2.1 49 0; omega, fun q hq => ?_⟩
          show _ ∧ q.2 ≤ (tLs sp (n + 1) d (tName (tAdv S))).2.1 49 0
          rcases List.mem_cons.mp hq with e | e
          · rw [e]
            show S 49 0 ≤ tName (tAdv S) 54 0 ∧ tName (tAdv S) 54 0 ≤ _
            omega
          · have := i2 q e
            omega
        · rw [if_neg y]
          refine ⟨by show _ ≤ tName (tAdv S) 49 0; omega, fun q hq => ?_⟩
          show _ ∧ q.2 ≤ tName (tAdv S) 49 0
          rcases List.mem_cons.mp hq with e | e
          · rw [e]
            show S 49 0 ≤ tName (tAdv S) 54 0 ∧ tName (tAdv S) 54 0 ≤ _
            omega
          · cases e
      · rw [if_neg nm]
        exact ⟨by show _ ≤ tFail (tAdv S) 49 0; omega, fun q hq => by cases hq⟩
end PLC
