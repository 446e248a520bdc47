/-! PURE: mistakes are put in their order, in whatever order they come *-/
section INS
def msLe (x y : tMi) : Prop := msLt y x = false
theorem msLt_iff {x y : tMi} : msLt x y = true ↔ x.2.1 < y.2.1 ∨ (x.2.1 = y.2.1 ∧ (x.1 < y.1 ∨ (x.1 = y.1 ∧ x.2.2 < y.2.2))) := by
  unfold msLt
  by_cases h1 : x.2.1 = y.2.1
  · rw [if_neg (fun y => y h1)]
    by_cases h2 : x.1 = y.1
    · rw [if_neg (fun y => y h2), decide_eq_true_iff]
      omega
    · rw [if_pos h2, decide_eq_true_iff]
      omega
  · rw [if_pos h1, decide_eq_true_iff]
    omega
theorem msLe_iff {x y : tMi} : msLe x y ↔ x.2.1 < y.2.1 ∨ (x.2.1 = y.2.1 ∧ (x.1 < y.1 ∨ (x.1 = y.1 ∧ x.2.2 ≤ y.2.2))) := by
  unfold msLe
  rw [Bool.eq_false_iff, Ne, msLt_iff]
  omega
theorem msLe_tr {x y z : tMi} (h1 : msLe x y) (h2 : msLe y z) : msLe x z := by
  rw [msLe_iff] at *
  omega
theorem msLe_as {x y : tMi} (h1 : msLe x y) (h2 : msLe y x) : x = y := by
  rw [msLe_iff] at *
  obtain ⟨a, b, c⟩ := x
  obtain ⟨a', b', c'⟩ := y
  simp only at *
  rw [show a = a' by omega, show b = b' by omega, show c = c' by omega]
theorem msLt_le {x y : tMi} (h : msLt x y = true) : msLe x y := by
  rw [msLt_iff] at h
  rw [msLe_iff]
  omega
theorem insR_s {x : tMi} : ∀ (A B : List tMi), (A.reverse ++ B).Pairwise msLe → (∀ z, z ∈ B → msLe x z) → (insR x A B).Pairwise msLe ∧ (insR x A B).Perm (x :: (A.reverse ++ B)) := by
  intro A
  induction A with
  | nil =>
    intro B h hx
    refine ⟨List.pairwise_cons.mpr ⟨hx, by simpa using h⟩, ?_⟩
    exact List.Perm.refl _
  | cons z A ih =>
    intro B h hx
    rw [insR]
    have e : (z :: A).reverse ++ B = A.reverse ++ z :: B := by rw [List.reverse_cons, List.append_assoc]; rfl
    rw [e] at h ⊢
    by_cases q : msLt x z = true
    · rw [if_pos q]
      exact ih (z :: B) h (fun y hy => by
        rcases List.mem_cons.mp hy with e | e
        · rw [e]; exact msLt_le q
        · exact hx y e)
    · rw [if_neg q]
      have zx : msLe z x := by
        unfold msLe
        simpa using q
      rw [List.pairwise_append] at h
      obtain ⟨h1, h2, h3⟩ := h
      refine ⟨List.pairwise_append.mpr ⟨h1, ?_, fun a ha y hy => ?_⟩, ?_⟩
      · rw [List.pairwise_cons] at h2 ⊢
        refine ⟨fun y hy => ?_, List.pairwise_cons.mpr ⟨hx, h2.2⟩⟩
        rcases List.mem_cons.mp hy with e | e
        · rw [e]; exact zx
        · exact h2.1 y e
      · rcases List.mem_cons.mp hy with e | e
        · rw [e]; exact h3 a ha z List.mem_cons_self
        · rcases List.mem_cons.mp e with e | e
          · rw [e]; exact msLe_tr (h3 a ha z List.mem_cons_self) zx
          · exact h3 a ha y (List.mem_cons_of_mem _ e)
      · have p1 : (A.reverse ++ z :: x :: B).Perm (A.reverse ++ x :: z :: B) := List.Perm.append_left _ (List.Perm.swap _ _ _)
        exact p1.trans List.perm_middle
theorem insM_s {x : tMi} {L : List tMi} (h : L.Pairwise msLe) : (insM x L).Pairwise msLe ∧ (insM x L).Perm (x :: L) := by
  have := insR_s (x := x) L.reverse [] (by simpa using h) (fun z hz => by simp at hz)
  unfold insM
  simpa using this
theorem insA_s : ∀ (xs L : List tMi), L.Pairwise msLe → (insA L xs).Pairwise msLe ∧ (insA L xs).Perm (L ++ xs) := by
  intro xs
  induction xs with
  | nil => intro L h; exact ⟨h, by rw [List.append_nil]; exact List.Perm.refl _⟩
  | cons x xs ih =>
    intro L h
    obtain ⟨h1, h2⟩ := insM_s (x := x) h
    obtain ⟨h3, h4⟩ := ih _ h1
    refine ⟨h3, h4.trans ?_⟩
    exact (List.Perm.append_right xs h2).trans List.perm_middle.symm
theorem insA_perm {xs ys : List tMi} (h : xs.Perm ys) : insA [] xs = insA [] ys := by
  obtain ⟨a1, a2⟩ := insA_s xs [] List.Pairwise.nil
  obtain ⟨b1, b2⟩ := insA_s ys [] List.Pairwise.nil
  exact List.Perm.eq_of_pairwise (le := msLe) (fun a b _ _ h1 h2 => msLe_as h1 h2) a1 b1 (a2.trans (h.trans b2.symm))
end INS
